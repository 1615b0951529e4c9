/-! THE LAW'S CASES (written by gen/law.py). -/
set_option maxRecDepth 100000
theorem lk_X0_32 : zlkV RX0 32 1 0 0 F_X1_sign := ⟨yX1_sign, cX1_sign, 3, some .int, 0, RX1, TX1, 52, M_X1_sign, zrcv_vt, zcls0, (Nat.le_of_ble_eq_true rfl), q315, q316, q317, q89, q318, rfl, by decide, by decide, rfl⟩
theorem lk_X0_35 : zlkV RX0 35 1 0 0 F_X3_sign := ⟨yX3_sign, cX3_sign, 3, some .int, 2, RX3, TX3, 52, M_X3_sign, zrcv_vt, zcls2, (Nat.le_of_ble_eq_true rfl), q1201, q1202, q1203, q91, q1204, rfl, by decide, by decide, rfl⟩
theorem C_sign {Z : ZK} {L : Fr} {h h1 h2 : Hp} {xs : Nat → Int32} {N i : Nat} {v : Int32} (hX : zx RX0 code 7 300 false Z) (hS : zsc Z N xs) (hN : N ≤ 320) (hL0 : L.2 0 = some 1000012) (hL1 : L.2 1 = some 0) (hL2 : L.2 2 = some 60) (hi : L.1 4 = Int32.ofNat i) (hiN : i + 5 ≤ N) (e1 : F_X1_sign [.ref 0, .int (xs (i + 1))] h = some (.int v, h1)) (e2 : F_X3_sign [.ref 60, .int (xs (i + 1))] h1 = some (.int v, h2)) (hcap : zcap Z h2) (kk : zw Z 7 2033 L [true, true, true, true, false] [] h2) : zw Z 7 284 L [true, true, true, true, false] [] h := by
  have iS := zinvV (cc := code) (nL := 7) (d := 300) (ini := false) lk_X0_32 (Or.inl rfl) (Nat.le_of_ble_eq_true rfl) dL_law_291
  have iM := zinvV (cc := code) (nL := 7) (d := 300) (ini := false) lk_X0_35 (Or.inl rfl) (Nat.le_of_ble_eq_true rfl) dL_law_301
  have hc1 : zcap Z h1 := zcap_le (iM.1 _ _ _ _ e2) hcap
  refine zw_aload_n (i := 1) hX rfl rfl dL_law_284 ?_
  rw [hL1]
  refine zw_arg (j := 1) hX hS hN hL0 hi (by omega) rfl rfl (by decide) dL_law_285 dL_law_286 dL_law_288 dL_law_289 dL_law_290 (Nat.le_of_ble_eq_true rfl) ?_
  refine iS.2 Z hX L [true, true, true, true, false] [] h h1 [.ref 0, .int (xs (i + 1))] _ e1 rfl hc1 (Nat.zero_le _) ?_
  refine zw_aload_n (i := 2) hX rfl rfl dL_law_294 ?_
  rw [hL2]
  refine zw_arg (j := 1) hX hS hN hL0 hi (by omega) rfl rfl (by decide) dL_law_295 dL_law_296 dL_law_298 dL_law_299 dL_law_300 (Nat.le_of_ble_eq_true rfl) ?_
  refine iM.2 Z hX L [true, true, true, true, false] [.int v] h1 h2 [.ref 60, .int (xs (i + 1))] _ e2 rfl hcap (Nat.le_of_ble_eq_true rfl) ?_
  exact zjT_eq dL_law_304 rfl Z hX L [true, true, true, true, false] [] h2 v v (fun _ => kk) (fun q => absurd q (by unfold zEQ; rw [decide_eq_true rfl]; decide))
theorem lk_X0_36 : zlkV RX0 36 1 0 1 F_X1_end := ⟨yX1_end, cX1_end, 2, some .boolean, 0, RX1, TX1, 52, M_X1_end, zrcv_vt, zcls0, (Nat.le_of_ble_eq_true rfl), q319, q320, q321, q89, q322, rfl, by decide, by decide, rfl⟩
theorem lk_X0_40 : zlkV RX0 40 1 0 1 F_X3_end := ⟨yX3_end, cX3_end, 2, some .boolean, 2, RX3, TX3, 52, M_X3_end, zrcv_vt, zcls2, (Nat.le_of_ble_eq_true rfl), q1205, q1206, q1207, q91, q1208, rfl, by decide, by decide, rfl⟩
theorem C_end {Z : ZK} {L : Fr} {h h1 h2 : Hp} {xs : Nat → Int32} {N i : Nat} {v : Int32} (hX : zx RX0 code 7 300 false Z) (hS : zsc Z N xs) (hN : N ≤ 320) (hL0 : L.2 0 = some 1000012) (hL1 : L.2 1 = some 0) (hL2 : L.2 2 = some 60) (hi : L.1 4 = Int32.ofNat i) (hiN : i + 5 ≤ N) (e1 : F_X1_end [.ref 0, .int (xs (i + 1))] h = some (.int v, h1)) (e2 : F_X3_end [.ref 60, .int (xs (i + 1))] h1 = some (.int v, h2)) (hcap : zcap Z h2) (kk : zw Z 7 2033 L [true, true, true, true, false] [] h2) : zw Z 7 309 L [true, true, true, true, false] [] h := by
  have iS := zinvV (cc := code) (nL := 7) (d := 300) (ini := false) lk_X0_36 (Or.inl rfl) (Nat.le_of_ble_eq_true rfl) dL_law_316
  have iM := zinvV (cc := code) (nL := 7) (d := 300) (ini := false) lk_X0_40 (Or.inl rfl) (Nat.le_of_ble_eq_true rfl) dL_law_326
  have hc1 : zcap Z h1 := zcap_le (iM.1 _ _ _ _ e2) hcap
  refine zw_aload_n (i := 1) hX rfl rfl dL_law_309 ?_
  rw [hL1]
  refine zw_arg (j := 1) hX hS hN hL0 hi (by omega) rfl rfl (by decide) dL_law_310 dL_law_311 dL_law_313 dL_law_314 dL_law_315 (Nat.le_of_ble_eq_true rfl) ?_
  refine iS.2 Z hX L [true, true, true, true, false] [] h h1 [.ref 0, .int (xs (i + 1))] _ e1 rfl hc1 (Nat.zero_le _) ?_
  refine zw_aload_n (i := 2) hX rfl rfl dL_law_319 ?_
  rw [hL2]
  refine zw_arg (j := 1) hX hS hN hL0 hi (by omega) rfl rfl (by decide) dL_law_320 dL_law_321 dL_law_323 dL_law_324 dL_law_325 (Nat.le_of_ble_eq_true rfl) ?_
  refine iM.2 Z hX L [true, true, true, true, false] [.int v] h1 h2 [.ref 60, .int (xs (i + 1))] _ e2 rfl hcap (Nat.le_of_ble_eq_true rfl) ?_
  exact zjT_eq dL_law_329 rfl Z hX L [true, true, true, true, false] [] h2 v v (fun _ => kk) (fun q => absurd q (by unfold zEQ; rw [decide_eq_true rfl]; decide))
theorem lk_X0_41 : zlkV RX0 41 0 0 4 F_X1_town := ⟨yX1_town, cX1_town, 7, some .int, 0, RX1, TX1, 52, M_X1_town, zrcv_vt, zcls0, (Nat.le_of_ble_eq_true rfl), q326, q327, q328, q89, q329, rfl, by decide, by decide, rfl⟩
theorem lk_X0_45 : zlkV RX0 45 0 0 3 F_X3_town := ⟨yX3_town, cX3_town, 4, some .int, 2, RX3, TX3, 52, M_X3_town, zrcv_vt, zcls2, (Nat.le_of_ble_eq_true rfl), q1212, q1213, q1214, q91, q1215, rfl, by decide, by decide, rfl⟩
theorem C_town {Z : ZK} {L : Fr} {h h1 h2 : Hp} {xs : Nat → Int32} {N i : Nat} {v : Int32} (hX : zx RX0 code 7 300 false Z) (hS : zsc Z N xs) (hN : N ≤ 320) (hL0 : L.2 0 = some 1000012) (hL1 : L.2 1 = some 0) (hL2 : L.2 2 = some 60) (hi : L.1 4 = Int32.ofNat i) (hiN : i + 5 ≤ N) (e1 : F_X1_town [.ref 0] h = some (.int v, h1)) (e2 : F_X3_town [.ref 60] h1 = some (.int v, h2)) (hcap : zcap Z h2) (kk : zw Z 7 2033 L [true, true, true, true, false] [] h2) : zw Z 7 334 L [true, true, true, true, false] [] h := by
  have iS := zinvV (cc := code) (nL := 7) (d := 300) (ini := false) lk_X0_41 (Or.inl rfl) (Nat.le_of_ble_eq_true rfl) dL_law_335
  have iM := zinvV (cc := code) (nL := 7) (d := 300) (ini := false) lk_X0_45 (Or.inl rfl) (Nat.le_of_ble_eq_true rfl) dL_law_339
  have hc1 : zcap Z h1 := zcap_le (iM.1 _ _ _ _ e2) hcap
  refine zw_aload_n (i := 1) hX rfl rfl dL_law_334 ?_
  rw [hL1]
  refine iS.2 Z hX L [true, true, true, true, false] [] h h1 [.ref 0] _ e1 rfl hc1 (Nat.zero_le _) ?_
  refine zw_aload_n (i := 2) hX rfl rfl dL_law_338 ?_
  rw [hL2]
  refine iM.2 Z hX L [true, true, true, true, false] [.int v] h1 h2 [.ref 60] _ e2 rfl hcap (Nat.le_of_ble_eq_true rfl) ?_
  exact zjT_eq dL_law_342 rfl Z hX L [true, true, true, true, false] [] h2 v v (fun _ => kk) (fun q => absurd q (by unfold zEQ; rw [decide_eq_true rfl]; decide))
theorem lk_X0_46 : zlkV RX0 46 0 0 5 F_X1_weather := ⟨yX1_weather, cX1_weather, 4, some .int, 0, RX1, TX1, 52, M_X1_weather, zrcv_vt, zcls0, (Nat.le_of_ble_eq_true rfl), q363, q364, q365, q89, q366, rfl, by decide, by decide, rfl⟩
theorem lk_X0_49 : zlkV RX0 49 0 0 1 F_X3_weather := ⟨yX3_weather, cX3_weather, 3, some .int, 2, RX3, TX3, 52, M_X3_weather, zrcv_vt, zcls2, (Nat.le_of_ble_eq_true rfl), q1244, q1245, q1246, q91, q1247, rfl, by decide, by decide, rfl⟩
theorem C_weather {Z : ZK} {L : Fr} {h h1 h2 : Hp} {xs : Nat → Int32} {N i : Nat} {v : Int32} (hX : zx RX0 code 7 300 false Z) (hS : zsc Z N xs) (hN : N ≤ 320) (hL0 : L.2 0 = some 1000012) (hL1 : L.2 1 = some 0) (hL2 : L.2 2 = some 60) (hi : L.1 4 = Int32.ofNat i) (hiN : i + 5 ≤ N) (e1 : F_X1_weather [.ref 0] h = some (.int v, h1)) (e2 : F_X3_weather [.ref 60] h1 = some (.int v, h2)) (hcap : zcap Z h2) (kk : zw Z 7 2033 L [true, true, true, true, false] [] h2) : zw Z 7 347 L [true, true, true, true, false] [] h := by
  have iS := zinvV (cc := code) (nL := 7) (d := 300) (ini := false) lk_X0_46 (Or.inl rfl) (Nat.le_of_ble_eq_true rfl) dL_law_348
  have iM := zinvV (cc := code) (nL := 7) (d := 300) (ini := false) lk_X0_49 (Or.inl rfl) (Nat.le_of_ble_eq_true rfl) dL_law_352
  have hc1 : zcap Z h1 := zcap_le (iM.1 _ _ _ _ e2) hcap
  refine zw_aload_n (i := 1) hX rfl rfl dL_law_347 ?_
  rw [hL1]
  refine iS.2 Z hX L [true, true, true, true, false] [] h h1 [.ref 0] _ e1 rfl hc1 (Nat.zero_le _) ?_
  refine zw_aload_n (i := 2) hX rfl rfl dL_law_351 ?_
  rw [hL2]
  refine iM.2 Z hX L [true, true, true, true, false] [.int v] h1 h2 [.ref 60] _ e2 rfl hcap (Nat.le_of_ble_eq_true rfl) ?_
  exact zjT_eq dL_law_355 rfl Z hX L [true, true, true, true, false] [] h2 v v (fun _ => kk) (fun q => absurd q (by unfold zEQ; rw [decide_eq_true rfl]; decide))
theorem lk_X0_50 : zlkV RX0 50 0 0 121 F_X1_rule := ⟨yX1_rule, cX1_rule, 4, some .int, 0, RX1, TX1, 52, M_X1_rule, zrcv_vt, zcls0, (Nat.le_of_ble_eq_true rfl), q475, q476, q477, q89, q478, rfl, by decide, by decide, rfl⟩
theorem lk_X0_53 : zlkV RX0 53 0 0 121 F_X3_rule := ⟨yX3_rule, cX3_rule, 3, some .int, 2, RX3, TX3, 52, M_X3_rule, zrcv_vt, zcls2, (Nat.le_of_ble_eq_true rfl), q1261, q1262, q1263, q91, q1264, rfl, by decide, by decide, rfl⟩
theorem C_rule {Z : ZK} {L : Fr} {h h1 h2 : Hp} {xs : Nat → Int32} {N i : Nat} {v : Int32} (hX : zx RX0 code 7 300 false Z) (hS : zsc Z N xs) (hN : N ≤ 320) (hL0 : L.2 0 = some 1000012) (hL1 : L.2 1 = some 0) (hL2 : L.2 2 = some 60) (hi : L.1 4 = Int32.ofNat i) (hiN : i + 5 ≤ N) (e1 : F_X1_rule [.ref 0] h = some (.int v, h1)) (e2 : F_X3_rule [.ref 60] h1 = some (.int v, h2)) (hcap : zcap Z h2) (kk : zw Z 7 2033 L [true, true, true, true, false] [] h2) : zw Z 7 360 L [true, true, true, true, false] [] h := by
  have iS := zinvV (cc := code) (nL := 7) (d := 300) (ini := false) lk_X0_50 (Or.inl rfl) (Nat.le_of_ble_eq_true rfl) dL_law_361
  have iM := zinvV (cc := code) (nL := 7) (d := 300) (ini := false) lk_X0_53 (Or.inl rfl) (Nat.le_of_ble_eq_true rfl) dL_law_365
  have hc1 : zcap Z h1 := zcap_le (iM.1 _ _ _ _ e2) hcap
  refine zw_aload_n (i := 1) hX rfl rfl dL_law_360 ?_
  rw [hL1]
  refine iS.2 Z hX L [true, true, true, true, false] [] h h1 [.ref 0] _ e1 rfl hc1 (Nat.zero_le _) ?_
  refine zw_aload_n (i := 2) hX rfl rfl dL_law_364 ?_
  rw [hL2]
  refine iM.2 Z hX L [true, true, true, true, false] [.int v] h1 h2 [.ref 60] _ e2 rfl hcap (Nat.le_of_ble_eq_true rfl) ?_
  exact zjT_eq dL_law_368 rfl Z hX L [true, true, true, true, false] [] h2 v v (fun _ => kk) (fun q => absurd q (by unfold zEQ; rw [decide_eq_true rfl]; decide))
theorem lk_X0_54 : zlkV RX0 54 2 0 1 F_X1_winter := ⟨yX1_winter, cX1_winter, 7, some .int, 0, RX1, TX1, 52, M_X1_winter, zrcv_vt, zcls0, (Nat.le_of_ble_eq_true rfl), q460, q461, q462, q89, q463, rfl, by decide, by decide, rfl⟩
theorem lk_X0_57 : zlkV RX0 57 2 0 1 F_X3_winter := ⟨yX3_winter, cX3_winter, 7, some .int, 2, RX3, TX3, 52, M_X3_winter, zrcv_vt, zcls2, (Nat.le_of_ble_eq_true rfl), q1248, q1249, q1250, q91, q1251, rfl, by decide, by decide, rfl⟩
theorem C_winter {Z : ZK} {L : Fr} {h h1 h2 : Hp} {xs : Nat → Int32} {N i : Nat} {v : Int32} (hX : zx RX0 code 7 300 false Z) (hS : zsc Z N xs) (hN : N ≤ 320) (hL0 : L.2 0 = some 1000012) (hL1 : L.2 1 = some 0) (hL2 : L.2 2 = some 60) (hi : L.1 4 = Int32.ofNat i) (hiN : i + 5 ≤ N) (e1 : F_X1_winter [.ref 0, .int (xs (i + 1)), .int (xs (i + 2))] h = some (.int v, h1)) (e2 : F_X3_winter [.ref 60, .int (xs (i + 1)), .int (xs (i + 2))] h1 = some (.int v, h2)) (hcap : zcap Z h2) (kk : zw Z 7 2033 L [true, true, true, true, false] [] h2) : zw Z 7 373 L [true, true, true, true, false] [] h := by
  have iS := zinvV (cc := code) (nL := 7) (d := 300) (ini := false) lk_X0_54 (Or.inl rfl) (Nat.le_of_ble_eq_true rfl) dL_law_386
  have iM := zinvV (cc := code) (nL := 7) (d := 300) (ini := false) lk_X0_57 (Or.inl rfl) (Nat.le_of_ble_eq_true rfl) dL_law_402
  have hc1 : zcap Z h1 := zcap_le (iM.1 _ _ _ _ e2) hcap
  refine zw_aload_n (i := 1) hX rfl rfl dL_law_373 ?_
  rw [hL1]
  refine zw_arg (j := 1) hX hS hN hL0 hi (by omega) rfl rfl (by decide) dL_law_374 dL_law_375 dL_law_377 dL_law_378 dL_law_379 (Nat.le_of_ble_eq_true rfl) ?_
  refine zw_arg (j := 2) hX hS hN hL0 hi (by omega) rfl rfl (by decide) dL_law_380 dL_law_381 dL_law_383 dL_law_384 dL_law_385 (Nat.le_of_ble_eq_true rfl) ?_
  refine iS.2 Z hX L [true, true, true, true, false] [] h h1 [.ref 0, .int (xs (i + 1)), .int (xs (i + 2))] _ e1 rfl hc1 (Nat.zero_le _) ?_
  refine zw_aload_n (i := 2) hX rfl rfl dL_law_389 ?_
  rw [hL2]
  refine zw_arg (j := 1) hX hS hN hL0 hi (by omega) rfl rfl (by decide) dL_law_390 dL_law_391 dL_law_393 dL_law_394 dL_law_395 (Nat.le_of_ble_eq_true rfl) ?_
  refine zw_arg (j := 2) hX hS hN hL0 hi (by omega) rfl rfl (by decide) dL_law_396 dL_law_397 dL_law_399 dL_law_400 dL_law_401 (Nat.le_of_ble_eq_true rfl) ?_
  refine iM.2 Z hX L [true, true, true, true, false] [.int v] h1 h2 [.ref 60, .int (xs (i + 1)), .int (xs (i + 2))] _ e2 rfl hcap (Nat.le_of_ble_eq_true rfl) ?_
  exact zjT_eq dL_law_405 rfl Z hX L [true, true, true, true, false] [] h2 v v (fun _ => kk) (fun q => absurd q (by unfold zEQ; rw [decide_eq_true rfl]; decide))
theorem lk_X0_58 : zlkV RX0 58 1 0 1 F_X1_falls := ⟨yX1_falls, cX1_falls, 2, some .int, 0, RX1, TX1, 52, M_X1_falls, zrcv_vt, zcls0, (Nat.le_of_ble_eq_true rfl), q466, q467, q468, q89, q469, rfl, by decide, by decide, rfl⟩
theorem lk_X0_61 : zlkV RX0 61 1 0 1 F_X3_falls := ⟨yX3_falls, cX3_falls, 2, some .int, 2, RX3, TX3, 52, M_X3_falls, zrcv_vt, zcls2, (Nat.le_of_ble_eq_true rfl), q1253, q1254, q1255, q91, q1256, rfl, by decide, by decide, rfl⟩
theorem C_falls {Z : ZK} {L : Fr} {h h1 h2 : Hp} {xs : Nat → Int32} {N i : Nat} {v : Int32} (hX : zx RX0 code 7 300 false Z) (hS : zsc Z N xs) (hN : N ≤ 320) (hL0 : L.2 0 = some 1000012) (hL1 : L.2 1 = some 0) (hL2 : L.2 2 = some 60) (hi : L.1 4 = Int32.ofNat i) (hiN : i + 5 ≤ N) (e1 : F_X1_falls [.ref 0, .int (xs (i + 1))] h = some (.int v, h1)) (e2 : F_X3_falls [.ref 60, .int (xs (i + 1))] h1 = some (.int v, h2)) (hcap : zcap Z h2) (kk : zw Z 7 2033 L [true, true, true, true, false] [] h2) : zw Z 7 410 L [true, true, true, true, false] [] h := by
  have iS := zinvV (cc := code) (nL := 7) (d := 300) (ini := false) lk_X0_58 (Or.inl rfl) (Nat.le_of_ble_eq_true rfl) dL_law_417
  have iM := zinvV (cc := code) (nL := 7) (d := 300) (ini := false) lk_X0_61 (Or.inl rfl) (Nat.le_of_ble_eq_true rfl) dL_law_427
  have hc1 : zcap Z h1 := zcap_le (iM.1 _ _ _ _ e2) hcap
  refine zw_aload_n (i := 1) hX rfl rfl dL_law_410 ?_
  rw [hL1]
  refine zw_arg (j := 1) hX hS hN hL0 hi (by omega) rfl rfl (by decide) dL_law_411 dL_law_412 dL_law_414 dL_law_415 dL_law_416 (Nat.le_of_ble_eq_true rfl) ?_
  refine iS.2 Z hX L [true, true, true, true, false] [] h h1 [.ref 0, .int (xs (i + 1))] _ e1 rfl hc1 (Nat.zero_le _) ?_
  refine zw_aload_n (i := 2) hX rfl rfl dL_law_420 ?_
  rw [hL2]
  refine zw_arg (j := 1) hX hS hN hL0 hi (by omega) rfl rfl (by decide) dL_law_421 dL_law_422 dL_law_424 dL_law_425 dL_law_426 (Nat.le_of_ble_eq_true rfl) ?_
  refine iM.2 Z hX L [true, true, true, true, false] [.int v] h1 h2 [.ref 60, .int (xs (i + 1))] _ e2 rfl hcap (Nat.le_of_ble_eq_true rfl) ?_
  exact zjT_eq dL_law_430 rfl Z hX L [true, true, true, true, false] [] h2 v v (fun _ => kk) (fun q => absurd q (by unfold zEQ; rw [decide_eq_true rfl]; decide))
theorem lk_X0_67 : zlkV RX0 67 2 0 2 F_X3_of := ⟨yX3_of, cX3_of, 3, some .int, 2, RX3, TX3, 52, M_X3_of, zrcv_vt, zcls2, (Nat.le_of_ble_eq_true rfl), q1290, q1291, q1292, q91, q1293, rfl, by decide, by decide, rfl⟩
theorem lk_X0_68 : zlkV RX0 68 0 0 0 F_X3_thrown := ⟨yX3_thrown, cX3_thrown, 1, some .int, 2, RX3, TX3, 52, M_X3_thrown, zrcv_vt, zcls2, (Nat.le_of_ble_eq_true rfl), q1197, q1198, q1199, q91, q1200, rfl, by decide, by decide, rfl⟩
theorem lk_X0_71 : zlkV RX0 71 3 0 2 F_X1_set := ⟨yX1_set, cX1_set, 4, some .int, 0, RX1, TX1, 52, M_X1_set, zrcv_vt, zcls0, (Nat.le_of_ble_eq_true rfl), q561, q562, q563, q89, q564, rfl, by decide, by decide, rfl⟩
theorem lk_X0_75 : zlkV RX0 75 3 0 3 F_X3_set := ⟨yX3_set, cX3_set, 5, some .int, 2, RX3, TX3, 52, M_X3_set, zrcv_vt, zcls2, (Nat.le_of_ble_eq_true rfl), q1309, q1310, q1311, q91, q1312, rfl, by decide, by decide, rfl⟩
theorem C_set {Z : ZK} {L : Fr} {h h1 h2 : Hp} {xs : Nat → Int32} {N i : Nat} {v : Int32} (hX : zx RX0 code 7 300 false Z) (hS : zsc Z N xs) (hN : N ≤ 320) (hL0 : L.2 0 = some 1000012) (hL1 : L.2 1 = some 0) (hL2 : L.2 2 = some 60) (hi : L.1 4 = Int32.ofNat i) (hiN : i + 5 ≤ N) (e1 : F_X1_set [.ref 0, .int (xs (i + 1)), .int (xs (i + 2)), .int (xs (i + 3))] h = some (.int v, h1)) (e2 : F_X3_set [.ref 60, .int (xs (i + 1)), .int (xs (i + 2)), .int (xs (i + 3))] h1 = some (.int v, h2)) (hcap : zcap Z h2) (kk : zw Z 7 2033 L [true, true, true, true, false] [] h2) : zw Z 7 503 L [true, true, true, true, false] [] h := by
  have iS := zinvV (cc := code) (nL := 7) (d := 300) (ini := false) lk_X0_71 (Or.inl rfl) (Nat.le_of_ble_eq_true rfl) dL_law_522
  have iM := zinvV (cc := code) (nL := 7) (d := 300) (ini := false) lk_X0_75 (Or.inl rfl) (Nat.le_of_ble_eq_true rfl) dL_law_544
  have hc1 : zcap Z h1 := zcap_le (iM.1 _ _ _ _ e2) hcap
  refine zw_aload_n (i := 1) hX rfl rfl dL_law_503 ?_
  rw [hL1]
  refine zw_arg (j := 1) hX hS hN hL0 hi (by omega) rfl rfl (by decide) dL_law_504 dL_law_505 dL_law_507 dL_law_508 dL_law_509 (Nat.le_of_ble_eq_true rfl) ?_
  refine zw_arg (j := 2) hX hS hN hL0 hi (by omega) rfl rfl (by decide) dL_law_510 dL_law_511 dL_law_513 dL_law_514 dL_law_515 (Nat.le_of_ble_eq_true rfl) ?_
  refine zw_arg (j := 3) hX hS hN hL0 hi (by omega) rfl rfl (by decide) dL_law_516 dL_law_517 dL_law_519 dL_law_520 dL_law_521 (Nat.le_of_ble_eq_true rfl) ?_
  refine iS.2 Z hX L [true, true, true, true, false] [] h h1 [.ref 0, .int (xs (i + 1)), .int (xs (i + 2)), .int (xs (i + 3))] _ e1 rfl hc1 (Nat.zero_le _) ?_
  refine zw_aload_n (i := 2) hX rfl rfl dL_law_525 ?_
  rw [hL2]
  refine zw_arg (j := 1) hX hS hN hL0 hi (by omega) rfl rfl (by decide) dL_law_526 dL_law_527 dL_law_529 dL_law_530 dL_law_531 (Nat.le_of_ble_eq_true rfl) ?_
  refine zw_arg (j := 2) hX hS hN hL0 hi (by omega) rfl rfl (by decide) dL_law_532 dL_law_533 dL_law_535 dL_law_536 dL_law_537 (Nat.le_of_ble_eq_true rfl) ?_
  refine zw_arg (j := 3) hX hS hN hL0 hi (by omega) rfl rfl (by decide) dL_law_538 dL_law_539 dL_law_541 dL_law_542 dL_law_543 (Nat.le_of_ble_eq_true rfl) ?_
  refine iM.2 Z hX L [true, true, true, true, false] [.int v] h1 h2 [.ref 60, .int (xs (i + 1)), .int (xs (i + 2)), .int (xs (i + 3))] _ e2 rfl hcap (Nat.le_of_ble_eq_true rfl) ?_
  exact zjT_eq dL_law_547 rfl Z hX L [true, true, true, true, false] [] h2 v v (fun _ => kk) (fun q => absurd q (by unfold zEQ; rw [decide_eq_true rfl]; decide))
theorem lk_X0_76 : zlkV RX0 76 4 0 1 F_X1_sheet := ⟨yX1_sheet, cX1_sheet, 9, some .int, 0, RX1, TX1, 52, M_X1_sheet, zrcv_vt, zcls0, (Nat.le_of_ble_eq_true rfl), q576, q577, q578, q89, q579, rfl, by decide, by decide, rfl⟩
theorem lk_X0_80 : zlkV RX0 80 4 0 1 F_X3_sheet := ⟨yX3_sheet, cX3_sheet, 9, some .int, 2, RX3, TX3, 52, M_X3_sheet, zrcv_vt, zcls2, (Nat.le_of_ble_eq_true rfl), q1314, q1315, q1316, q91, q1317, rfl, by decide, by decide, rfl⟩
theorem C_sheet {Z : ZK} {L : Fr} {h h1 h2 : Hp} {xs : Nat → Int32} {N i : Nat} {v : Int32} (hX : zx RX0 code 7 300 false Z) (hS : zsc Z N xs) (hN : N ≤ 320) (hL0 : L.2 0 = some 1000012) (hL1 : L.2 1 = some 0) (hL2 : L.2 2 = some 60) (hi : L.1 4 = Int32.ofNat i) (hiN : i + 5 ≤ N) (e1 : F_X1_sheet [.ref 0, .int (xs (i + 1)), .int (xs (i + 2)), .int (xs (i + 3)), .int (xs (i + 4))] h = some (.int v, h1)) (e2 : F_X3_sheet [.ref 60, .int (xs (i + 1)), .int (xs (i + 2)), .int (xs (i + 3)), .int (xs (i + 4))] h1 = some (.int v, h2)) (hcap : zcap Z h2) (kk : zw Z 7 2033 L [true, true, true, true, false] [] h2) : zw Z 7 552 L [true, true, true, true, false] [] h := by
  have iS := zinvV (cc := code) (nL := 7) (d := 300) (ini := false) lk_X0_76 (Or.inl rfl) (Nat.le_of_ble_eq_true rfl) dL_law_577
  have iM := zinvV (cc := code) (nL := 7) (d := 300) (ini := false) lk_X0_80 (Or.inl rfl) (Nat.le_of_ble_eq_true rfl) dL_law_605
  have hc1 : zcap Z h1 := zcap_le (iM.1 _ _ _ _ e2) hcap
  refine zw_aload_n (i := 1) hX rfl rfl dL_law_552 ?_
  rw [hL1]
  refine zw_arg (j := 1) hX hS hN hL0 hi (by omega) rfl rfl (by decide) dL_law_553 dL_law_554 dL_law_556 dL_law_557 dL_law_558 (Nat.le_of_ble_eq_true rfl) ?_
  refine zw_arg (j := 2) hX hS hN hL0 hi (by omega) rfl rfl (by decide) dL_law_559 dL_law_560 dL_law_562 dL_law_563 dL_law_564 (Nat.le_of_ble_eq_true rfl) ?_
  refine zw_arg (j := 3) hX hS hN hL0 hi (by omega) rfl rfl (by decide) dL_law_565 dL_law_566 dL_law_568 dL_law_569 dL_law_570 (Nat.le_of_ble_eq_true rfl) ?_
  refine zw_arg (j := 4) hX hS hN hL0 hi (by omega) rfl rfl (by decide) dL_law_571 dL_law_572 dL_law_574 dL_law_575 dL_law_576 (Nat.le_of_ble_eq_true rfl) ?_
  refine iS.2 Z hX L [true, true, true, true, false] [] h h1 [.ref 0, .int (xs (i + 1)), .int (xs (i + 2)), .int (xs (i + 3)), .int (xs (i + 4))] _ e1 rfl hc1 (Nat.zero_le _) ?_
  refine zw_aload_n (i := 2) hX rfl rfl dL_law_580 ?_
  rw [hL2]
  refine zw_arg (j := 1) hX hS hN hL0 hi (by omega) rfl rfl (by decide) dL_law_581 dL_law_582 dL_law_584 dL_law_585 dL_law_586 (Nat.le_of_ble_eq_true rfl) ?_
  refine zw_arg (j := 2) hX hS hN hL0 hi (by omega) rfl rfl (by decide) dL_law_587 dL_law_588 dL_law_590 dL_law_591 dL_law_592 (Nat.le_of_ble_eq_true rfl) ?_
  refine zw_arg (j := 3) hX hS hN hL0 hi (by omega) rfl rfl (by decide) dL_law_593 dL_law_594 dL_law_596 dL_law_597 dL_law_598 (Nat.le_of_ble_eq_true rfl) ?_
  refine zw_arg (j := 4) hX hS hN hL0 hi (by omega) rfl rfl (by decide) dL_law_599 dL_law_600 dL_law_602 dL_law_603 dL_law_604 (Nat.le_of_ble_eq_true rfl) ?_
  refine iM.2 Z hX L [true, true, true, true, false] [.int v] h1 h2 [.ref 60, .int (xs (i + 1)), .int (xs (i + 2)), .int (xs (i + 3)), .int (xs (i + 4))] _ e2 rfl hcap (Nat.le_of_ble_eq_true rfl) ?_
  exact zjT_eq dL_law_608 rfl Z hX L [true, true, true, true, false] [] h2 v v (fun _ => kk) (fun q => absurd q (by unfold zEQ; rw [decide_eq_true rfl]; decide))
theorem lk_X0_81 : zlkV RX0 81 1 0 2 F_X1_above := ⟨yX1_above, cX1_above, 6, some .int, 0, RX1, TX1, 52, M_X1_above, zrcv_vt, zcls0, (Nat.le_of_ble_eq_true rfl), q582, q583, q584, q89, q585, rfl, by decide, by decide, rfl⟩
theorem lk_X0_84 : zlkV RX0 84 1 0 2 F_X3_above := ⟨yX3_above, cX3_above, 7, some .int, 2, RX3, TX3, 52, M_X3_above, zrcv_vt, zcls2, (Nat.le_of_ble_eq_true rfl), q1319, q1320, q1321, q91, q1322, rfl, by decide, by decide, rfl⟩
theorem C_above {Z : ZK} {L : Fr} {h h1 h2 : Hp} {xs : Nat → Int32} {N i : Nat} {v : Int32} (hX : zx RX0 code 7 300 false Z) (hS : zsc Z N xs) (hN : N ≤ 320) (hL0 : L.2 0 = some 1000012) (hL1 : L.2 1 = some 0) (hL2 : L.2 2 = some 60) (hi : L.1 4 = Int32.ofNat i) (hiN : i + 5 ≤ N) (e1 : F_X1_above [.ref 0, .int (xs (i + 1))] h = some (.int v, h1)) (e2 : F_X3_above [.ref 60, .int (xs (i + 1))] h1 = some (.int v, h2)) (hcap : zcap Z h2) (kk : zw Z 7 2033 L [true, true, true, true, false] [] h2) : zw Z 7 613 L [true, true, true, true, false] [] h := by
  have iS := zinvV (cc := code) (nL := 7) (d := 300) (ini := false) lk_X0_81 (Or.inl rfl) (Nat.le_of_ble_eq_true rfl) dL_law_620
  have iM := zinvV (cc := code) (nL := 7) (d := 300) (ini := false) lk_X0_84 (Or.inl rfl) (Nat.le_of_ble_eq_true rfl) dL_law_630
  have hc1 : zcap Z h1 := zcap_le (iM.1 _ _ _ _ e2) hcap
  refine zw_aload_n (i := 1) hX rfl rfl dL_law_613 ?_
  rw [hL1]
  refine zw_arg (j := 1) hX hS hN hL0 hi (by omega) rfl rfl (by decide) dL_law_614 dL_law_615 dL_law_617 dL_law_618 dL_law_619 (Nat.le_of_ble_eq_true rfl) ?_
  refine iS.2 Z hX L [true, true, true, true, false] [] h h1 [.ref 0, .int (xs (i + 1))] _ e1 rfl hc1 (Nat.zero_le _) ?_
  refine zw_aload_n (i := 2) hX rfl rfl dL_law_623 ?_
  rw [hL2]
  refine zw_arg (j := 1) hX hS hN hL0 hi (by omega) rfl rfl (by decide) dL_law_624 dL_law_625 dL_law_627 dL_law_628 dL_law_629 (Nat.le_of_ble_eq_true rfl) ?_
  refine iM.2 Z hX L [true, true, true, true, false] [.int v] h1 h2 [.ref 60, .int (xs (i + 1))] _ e2 rfl hcap (Nat.le_of_ble_eq_true rfl) ?_
  exact zjT_eq dL_law_633 rfl Z hX L [true, true, true, true, false] [] h2 v v (fun _ => kk) (fun q => absurd q (by unfold zEQ; rw [decide_eq_true rfl]; decide))
theorem lk_X0_85 : zlkV RX0 85 2 0 3 F_X1_debt := ⟨yX1_debt, cX1_debt, 3, some .int, 0, RX1, TX1, 52, M_X1_debt, zrcv_vt, zcls0, (Nat.le_of_ble_eq_true rfl), q590, q591, q592, q89, q593, rfl, by decide, by decide, rfl⟩
theorem lk_X0_88 : zlkV RX0 88 2 0 3 F_X3_debt := ⟨yX3_debt, cX3_debt, 3, some .int, 2, RX3, TX3, 52, M_X3_debt, zrcv_vt, zcls2, (Nat.le_of_ble_eq_true rfl), q1327, q1328, q1329, q91, q1330, rfl, by decide, by decide, rfl⟩
theorem C_debt {Z : ZK} {L : Fr} {h h1 h2 : Hp} {xs : Nat → Int32} {N i : Nat} {v : Int32} (hX : zx RX0 code 7 300 false Z) (hS : zsc Z N xs) (hN : N ≤ 320) (hL0 : L.2 0 = some 1000012) (hL1 : L.2 1 = some 0) (hL2 : L.2 2 = some 60) (hi : L.1 4 = Int32.ofNat i) (hiN : i + 5 ≤ N) (e1 : F_X1_debt [.ref 0, .int (xs (i + 1)), .int (xs (i + 2))] h = some (.int v, h1)) (e2 : F_X3_debt [.ref 60, .int (xs (i + 1)), .int (xs (i + 2))] h1 = some (.int v, h2)) (hcap : zcap Z h2) (kk : zw Z 7 2033 L [true, true, true, true, false] [] h2) : zw Z 7 638 L [true, true, true, true, false] [] h := by
  have iS := zinvV (cc := code) (nL := 7) (d := 300) (ini := false) lk_X0_85 (Or.inl rfl) (Nat.le_of_ble_eq_true rfl) dL_law_651
  have iM := zinvV (cc := code) (nL := 7) (d := 300) (ini := false) lk_X0_88 (Or.inl rfl) (Nat.le_of_ble_eq_true rfl) dL_law_667
  have hc1 : zcap Z h1 := zcap_le (iM.1 _ _ _ _ e2) hcap
  refine zw_aload_n (i := 1) hX rfl rfl dL_law_638 ?_
  rw [hL1]
  refine zw_arg (j := 1) hX hS hN hL0 hi (by omega) rfl rfl (by decide) dL_law_639 dL_law_640 dL_law_642 dL_law_643 dL_law_644 (Nat.le_of_ble_eq_true rfl) ?_
  refine zw_arg (j := 2) hX hS hN hL0 hi (by omega) rfl rfl (by decide) dL_law_645 dL_law_646 dL_law_648 dL_law_649 dL_law_650 (Nat.le_of_ble_eq_true rfl) ?_
  refine iS.2 Z hX L [true, true, true, true, false] [] h h1 [.ref 0, .int (xs (i + 1)), .int (xs (i + 2))] _ e1 rfl hc1 (Nat.zero_le _) ?_
  refine zw_aload_n (i := 2) hX rfl rfl dL_law_654 ?_
  rw [hL2]
  refine zw_arg (j := 1) hX hS hN hL0 hi (by omega) rfl rfl (by decide) dL_law_655 dL_law_656 dL_law_658 dL_law_659 dL_law_660 (Nat.le_of_ble_eq_true rfl) ?_
  refine zw_arg (j := 2) hX hS hN hL0 hi (by omega) rfl rfl (by decide) dL_law_661 dL_law_662 dL_law_664 dL_law_665 dL_law_666 (Nat.le_of_ble_eq_true rfl) ?_
  refine iM.2 Z hX L [true, true, true, true, false] [.int v] h1 h2 [.ref 60, .int (xs (i + 1)), .int (xs (i + 2))] _ e2 rfl hcap (Nat.le_of_ble_eq_true rfl) ?_
  exact zjT_eq dL_law_670 rfl Z hX L [true, true, true, true, false] [] h2 v v (fun _ => kk) (fun q => absurd q (by unfold zEQ; rw [decide_eq_true rfl]; decide))
theorem lk_X0_89 : zlkV RX0 89 0 0 123 F_X1_day := ⟨yX1_day, cX1_day, 1, some .int, 0, RX1, TX1, 52, M_X1_day, zrcv_vt, zcls0, (Nat.le_of_ble_eq_true rfl), q611, q612, q613, q89, q614, rfl, by decide, by decide, rfl⟩
theorem lk_X0_92 : zlkV RX0 92 0 0 125 F_X3_day := ⟨yX3_day, cX3_day, 1, some .int, 2, RX3, TX3, 52, M_X3_day, zrcv_vt, zcls2, (Nat.le_of_ble_eq_true rfl), q1335, q1336, q1337, q91, q1338, rfl, by decide, by decide, rfl⟩
theorem C_day {Z : ZK} {L : Fr} {h h1 h2 : Hp} {xs : Nat → Int32} {N i : Nat} {v : Int32} (hX : zx RX0 code 7 300 false Z) (hS : zsc Z N xs) (hN : N ≤ 320) (hL0 : L.2 0 = some 1000012) (hL1 : L.2 1 = some 0) (hL2 : L.2 2 = some 60) (hi : L.1 4 = Int32.ofNat i) (hiN : i + 5 ≤ N) (e1 : F_X1_day [.ref 0] h = some (.int v, h1)) (e2 : F_X3_day [.ref 60] h1 = some (.int v, h2)) (hcap : zcap Z h2) (kk : zw Z 7 2033 L [true, true, true, true, false] [] h2) : zw Z 7 675 L [true, true, true, true, false] [] h := by
  have iS := zinvV (cc := code) (nL := 7) (d := 300) (ini := false) lk_X0_89 (Or.inl rfl) (Nat.le_of_ble_eq_true rfl) dL_law_676
  have iM := zinvV (cc := code) (nL := 7) (d := 300) (ini := false) lk_X0_92 (Or.inl rfl) (Nat.le_of_ble_eq_true rfl) dL_law_680
  have hc1 : zcap Z h1 := zcap_le (iM.1 _ _ _ _ e2) hcap
  refine zw_aload_n (i := 1) hX rfl rfl dL_law_675 ?_
  rw [hL1]
  refine iS.2 Z hX L [true, true, true, true, false] [] h h1 [.ref 0] _ e1 rfl hc1 (Nat.zero_le _) ?_
  refine zw_aload_n (i := 2) hX rfl rfl dL_law_679 ?_
  rw [hL2]
  refine iM.2 Z hX L [true, true, true, true, false] [.int v] h1 h2 [.ref 60] _ e2 rfl hcap (Nat.le_of_ble_eq_true rfl) ?_
  exact zjT_eq dL_law_683 rfl Z hX L [true, true, true, true, false] [] h2 v v (fun _ => kk) (fun q => absurd q (by unfold zEQ; rw [decide_eq_true rfl]; decide))
theorem lk_X0_93 : zlkV RX0 93 1 0 124 F_X1_days := ⟨yX1_days, cX1_days, 2, some .int, 0, RX1, TX1, 52, M_X1_days, zrcv_vt, zcls0, (Nat.le_of_ble_eq_true rfl), q665, q666, q667, q89, q668, rfl, by decide, by decide, rfl⟩
theorem lk_X0_96 : zlkV RX0 96 1 0 125 F_X3_days := ⟨yX3_days, cX3_days, 2, some .int, 2, RX3, TX3, 52, M_X3_days, zrcv_vt, zcls2, (Nat.le_of_ble_eq_true rfl), q1370, q1371, q1372, q91, q1373, rfl, by decide, by decide, rfl⟩
theorem C_days {Z : ZK} {L : Fr} {h h1 h2 : Hp} {xs : Nat → Int32} {N i : Nat} {v : Int32} (hX : zx RX0 code 7 300 false Z) (hS : zsc Z N xs) (hN : N ≤ 320) (hL0 : L.2 0 = some 1000012) (hL1 : L.2 1 = some 0) (hL2 : L.2 2 = some 60) (hi : L.1 4 = Int32.ofNat i) (hiN : i + 5 ≤ N) (e1 : F_X1_days [.ref 0, .int (xs (i + 1))] h = some (.int v, h1)) (e2 : F_X3_days [.ref 60, .int (xs (i + 1))] h1 = some (.int v, h2)) (hcap : zcap Z h2) (kk : zw Z 7 2033 L [true, true, true, true, false] [] h2) : zw Z 7 688 L [true, true, true, true, false] [] h := by
  have iS := zinvV (cc := code) (nL := 7) (d := 300) (ini := false) lk_X0_93 (Or.inl rfl) (Nat.le_of_ble_eq_true rfl) dL_law_695
  have iM := zinvV (cc := code) (nL := 7) (d := 300) (ini := false) lk_X0_96 (Or.inl rfl) (Nat.le_of_ble_eq_true rfl) dL_law_705
  have hc1 : zcap Z h1 := zcap_le (iM.1 _ _ _ _ e2) hcap
  refine zw_aload_n (i := 1) hX rfl rfl dL_law_688 ?_
  rw [hL1]
  refine zw_arg (j := 1) hX hS hN hL0 hi (by omega) rfl rfl (by decide) dL_law_689 dL_law_690 dL_law_692 dL_law_693 dL_law_694 (Nat.le_of_ble_eq_true rfl) ?_
  refine iS.2 Z hX L [true, true, true, true, false] [] h h1 [.ref 0, .int (xs (i + 1))] _ e1 rfl hc1 (Nat.zero_le _) ?_
  refine zw_aload_n (i := 2) hX rfl rfl dL_law_698 ?_
  rw [hL2]
  refine zw_arg (j := 1) hX hS hN hL0 hi (by omega) rfl rfl (by decide) dL_law_699 dL_law_700 dL_law_702 dL_law_703 dL_law_704 (Nat.le_of_ble_eq_true rfl) ?_
  refine iM.2 Z hX L [true, true, true, true, false] [.int v] h1 h2 [.ref 60, .int (xs (i + 1))] _ e2 rfl hcap (Nat.le_of_ble_eq_true rfl) ?_
  exact zjT_eq dL_law_708 rfl Z hX L [true, true, true, true, false] [] h2 v v (fun _ => kk) (fun q => absurd q (by unfold zEQ; rw [decide_eq_true rfl]; decide))
theorem lk_X0_97 : zlkV RX0 97 2 0 4 F_X1_sweep := ⟨yX1_sweep, cX1_sweep, 3, some .int, 0, RX1, TX1, 52, M_X1_sweep, zrcv_vt, zcls0, (Nat.le_of_ble_eq_true rfl), q677, q678, q679, q89, q680, rfl, by decide, by decide, rfl⟩
theorem lk_X0_100 : zlkV RX0 100 2 0 3 F_X3_sweep := ⟨yX3_sweep, cX3_sweep, 4, some .int, 2, RX3, TX3, 52, M_X3_sweep, zrcv_vt, zcls2, (Nat.le_of_ble_eq_true rfl), q1374, q1375, q1376, q91, q1377, rfl, by decide, by decide, rfl⟩
theorem C_sweep {Z : ZK} {L : Fr} {h h1 h2 : Hp} {xs : Nat → Int32} {N i : Nat} {v : Int32} (hX : zx RX0 code 7 300 false Z) (hS : zsc Z N xs) (hN : N ≤ 320) (hL0 : L.2 0 = some 1000012) (hL1 : L.2 1 = some 0) (hL2 : L.2 2 = some 60) (hi : L.1 4 = Int32.ofNat i) (hiN : i + 5 ≤ N) (e1 : F_X1_sweep [.ref 0, .int (xs (i + 1)), .int (xs (i + 2))] h = some (.int v, h1)) (e2 : F_X3_sweep [.ref 60, .int (xs (i + 1)), .int (xs (i + 2))] h1 = some (.int v, h2)) (hcap : zcap Z h2) (kk : zw Z 7 2033 L [true, true, true, true, false] [] h2) : zw Z 7 713 L [true, true, true, true, false] [] h := by
  have iS := zinvV (cc := code) (nL := 7) (d := 300) (ini := false) lk_X0_97 (Or.inl rfl) (Nat.le_of_ble_eq_true rfl) dL_law_726
  have iM := zinvV (cc := code) (nL := 7) (d := 300) (ini := false) lk_X0_100 (Or.inl rfl) (Nat.le_of_ble_eq_true rfl) dL_law_742
  have hc1 : zcap Z h1 := zcap_le (iM.1 _ _ _ _ e2) hcap
  refine zw_aload_n (i := 1) hX rfl rfl dL_law_713 ?_
  rw [hL1]
  refine zw_arg (j := 1) hX hS hN hL0 hi (by omega) rfl rfl (by decide) dL_law_714 dL_law_715 dL_law_717 dL_law_718 dL_law_719 (Nat.le_of_ble_eq_true rfl) ?_
  refine zw_arg (j := 2) hX hS hN hL0 hi (by omega) rfl rfl (by decide) dL_law_720 dL_law_721 dL_law_723 dL_law_724 dL_law_725 (Nat.le_of_ble_eq_true rfl) ?_
  refine iS.2 Z hX L [true, true, true, true, false] [] h h1 [.ref 0, .int (xs (i + 1)), .int (xs (i + 2))] _ e1 rfl hc1 (Nat.zero_le _) ?_
  refine zw_aload_n (i := 2) hX rfl rfl dL_law_729 ?_
  rw [hL2]
  refine zw_arg (j := 1) hX hS hN hL0 hi (by omega) rfl rfl (by decide) dL_law_730 dL_law_731 dL_law_733 dL_law_734 dL_law_735 (Nat.le_of_ble_eq_true rfl) ?_
  refine zw_arg (j := 2) hX hS hN hL0 hi (by omega) rfl rfl (by decide) dL_law_736 dL_law_737 dL_law_739 dL_law_740 dL_law_741 (Nat.le_of_ble_eq_true rfl) ?_
  refine iM.2 Z hX L [true, true, true, true, false] [.int v] h1 h2 [.ref 60, .int (xs (i + 1)), .int (xs (i + 2))] _ e2 rfl hcap (Nat.le_of_ble_eq_true rfl) ?_
  exact zjT_eq dL_law_745 rfl Z hX L [true, true, true, true, false] [] h2 v v (fun _ => kk) (fun q => absurd q (by unfold zEQ; rw [decide_eq_true rfl]; decide))
theorem lk_X0_101 : zlkV RX0 101 2 0 4 F_X1_clear := ⟨yX1_clear, cX1_clear, 3, some .int, 0, RX1, TX1, 52, M_X1_clear, zrcv_vt, zcls0, (Nat.le_of_ble_eq_true rfl), q688, q689, q690, q89, q691, rfl, by decide, by decide, rfl⟩
theorem lk_X0_104 : zlkV RX0 104 2 0 3 F_X3_clear := ⟨yX3_clear, cX3_clear, 4, some .int, 2, RX3, TX3, 52, M_X3_clear, zrcv_vt, zcls2, (Nat.le_of_ble_eq_true rfl), q1389, q1390, q1391, q91, q1392, rfl, by decide, by decide, rfl⟩
theorem C_clear {Z : ZK} {L : Fr} {h h1 h2 : Hp} {xs : Nat → Int32} {N i : Nat} {v : Int32} (hX : zx RX0 code 7 300 false Z) (hS : zsc Z N xs) (hN : N ≤ 320) (hL0 : L.2 0 = some 1000012) (hL1 : L.2 1 = some 0) (hL2 : L.2 2 = some 60) (hi : L.1 4 = Int32.ofNat i) (hiN : i + 5 ≤ N) (e1 : F_X1_clear [.ref 0, .int (xs (i + 1)), .int (xs (i + 2))] h = some (.int v, h1)) (e2 : F_X3_clear [.ref 60, .int (xs (i + 1)), .int (xs (i + 2))] h1 = some (.int v, h2)) (hcap : zcap Z h2) (kk : zw Z 7 2033 L [true, true, true, true, false] [] h2) : zw Z 7 750 L [true, true, true, true, false] [] h := by
  have iS := zinvV (cc := code) (nL := 7) (d := 300) (ini := false) lk_X0_101 (Or.inl rfl) (Nat.le_of_ble_eq_true rfl) dL_law_763
  have iM := zinvV (cc := code) (nL := 7) (d := 300) (ini := false) lk_X0_104 (Or.inl rfl) (Nat.le_of_ble_eq_true rfl) dL_law_779
  have hc1 : zcap Z h1 := zcap_le (iM.1 _ _ _ _ e2) hcap
  refine zw_aload_n (i := 1) hX rfl rfl dL_law_750 ?_
  rw [hL1]
  refine zw_arg (j := 1) hX hS hN hL0 hi (by omega) rfl rfl (by decide) dL_law_751 dL_law_752 dL_law_754 dL_law_755 dL_law_756 (Nat.le_of_ble_eq_true rfl) ?_
  refine zw_arg (j := 2) hX hS hN hL0 hi (by omega) rfl rfl (by decide) dL_law_757 dL_law_758 dL_law_760 dL_law_761 dL_law_762 (Nat.le_of_ble_eq_true rfl) ?_
  refine iS.2 Z hX L [true, true, true, true, false] [] h h1 [.ref 0, .int (xs (i + 1)), .int (xs (i + 2))] _ e1 rfl hc1 (Nat.zero_le _) ?_
  refine zw_aload_n (i := 2) hX rfl rfl dL_law_766 ?_
  rw [hL2]
  refine zw_arg (j := 1) hX hS hN hL0 hi (by omega) rfl rfl (by decide) dL_law_767 dL_law_768 dL_law_770 dL_law_771 dL_law_772 (Nat.le_of_ble_eq_true rfl) ?_
  refine zw_arg (j := 2) hX hS hN hL0 hi (by omega) rfl rfl (by decide) dL_law_773 dL_law_774 dL_law_776 dL_law_777 dL_law_778 (Nat.le_of_ble_eq_true rfl) ?_
  refine iM.2 Z hX L [true, true, true, true, false] [.int v] h1 h2 [.ref 60, .int (xs (i + 1)), .int (xs (i + 2))] _ e2 rfl hcap (Nat.le_of_ble_eq_true rfl) ?_
  exact zjT_eq dL_law_782 rfl Z hX L [true, true, true, true, false] [] h2 v v (fun _ => kk) (fun q => absurd q (by unfold zEQ; rw [decide_eq_true rfl]; decide))
theorem lk_X0_105 : zlkV RX0 105 2 0 4 F_X1_wind := ⟨yX1_wind, cX1_wind, 6, some .int, 0, RX1, TX1, 52, M_X1_wind, zrcv_vt, zcls0, (Nat.le_of_ble_eq_true rfl), q692, q693, q694, q89, q695, rfl, by decide, by decide, rfl⟩
theorem lk_X0_108 : zlkV RX0 108 2 0 2 F_X3_wind := ⟨yX3_wind, cX3_wind, 6, some .int, 2, RX3, TX3, 52, M_X3_wind, zrcv_vt, zcls2, (Nat.le_of_ble_eq_true rfl), q1397, q1398, q1399, q91, q1400, rfl, by decide, by decide, rfl⟩
theorem C_wind {Z : ZK} {L : Fr} {h h1 h2 : Hp} {xs : Nat → Int32} {N i : Nat} {v : Int32} (hX : zx RX0 code 7 300 false Z) (hS : zsc Z N xs) (hN : N ≤ 320) (hL0 : L.2 0 = some 1000012) (hL1 : L.2 1 = some 0) (hL2 : L.2 2 = some 60) (hi : L.1 4 = Int32.ofNat i) (hiN : i + 5 ≤ N) (e1 : F_X1_wind [.ref 0, .int (xs (i + 1)), .int (xs (i + 2))] h = some (.int v, h1)) (e2 : F_X3_wind [.ref 60, .int (xs (i + 1)), .int (xs (i + 2))] h1 = some (.int v, h2)) (hcap : zcap Z h2) (kk : zw Z 7 2033 L [true, true, true, true, false] [] h2) : zw Z 7 787 L [true, true, true, true, false] [] h := by
  have iS := zinvV (cc := code) (nL := 7) (d := 300) (ini := false) lk_X0_105 (Or.inl rfl) (Nat.le_of_ble_eq_true rfl) dL_law_800
  have iM := zinvV (cc := code) (nL := 7) (d := 300) (ini := false) lk_X0_108 (Or.inl rfl) (Nat.le_of_ble_eq_true rfl) dL_law_816
  have hc1 : zcap Z h1 := zcap_le (iM.1 _ _ _ _ e2) hcap
  refine zw_aload_n (i := 1) hX rfl rfl dL_law_787 ?_
  rw [hL1]
  refine zw_arg (j := 1) hX hS hN hL0 hi (by omega) rfl rfl (by decide) dL_law_788 dL_law_789 dL_law_791 dL_law_792 dL_law_793 (Nat.le_of_ble_eq_true rfl) ?_
  refine zw_arg (j := 2) hX hS hN hL0 hi (by omega) rfl rfl (by decide) dL_law_794 dL_law_795 dL_law_797 dL_law_798 dL_law_799 (Nat.le_of_ble_eq_true rfl) ?_
  refine iS.2 Z hX L [true, true, true, true, false] [] h h1 [.ref 0, .int (xs (i + 1)), .int (xs (i + 2))] _ e1 rfl hc1 (Nat.zero_le _) ?_
  refine zw_aload_n (i := 2) hX rfl rfl dL_law_803 ?_
  rw [hL2]
  refine zw_arg (j := 1) hX hS hN hL0 hi (by omega) rfl rfl (by decide) dL_law_804 dL_law_805 dL_law_807 dL_law_808 dL_law_809 (Nat.le_of_ble_eq_true rfl) ?_
  refine zw_arg (j := 2) hX hS hN hL0 hi (by omega) rfl rfl (by decide) dL_law_810 dL_law_811 dL_law_813 dL_law_814 dL_law_815 (Nat.le_of_ble_eq_true rfl) ?_
  refine iM.2 Z hX L [true, true, true, true, false] [.int v] h1 h2 [.ref 60, .int (xs (i + 1)), .int (xs (i + 2))] _ e2 rfl hcap (Nat.le_of_ble_eq_true rfl) ?_
  exact zjT_eq dL_law_819 rfl Z hX L [true, true, true, true, false] [] h2 v v (fun _ => kk) (fun q => absurd q (by unfold zEQ; rw [decide_eq_true rfl]; decide))
theorem lk_X0_109 : zlkV RX0 109 2 0 122 F_X1_loose := ⟨yX1_loose, cX1_loose, 4, some .int, 0, RX1, TX1, 52, M_X1_loose, zrcv_vt, zcls0, (Nat.le_of_ble_eq_true rfl), q696, q697, q698, q89, q699, rfl, by decide, by decide, rfl⟩
theorem lk_X0_112 : zlkV RX0 112 2 0 123 F_X3_loose := ⟨yX3_loose, cX3_loose, 5, some .int, 2, RX3, TX3, 52, M_X3_loose, zrcv_vt, zcls2, (Nat.le_of_ble_eq_true rfl), q1401, q1402, q1403, q91, q1404, rfl, by decide, by decide, rfl⟩
theorem C_loose {Z : ZK} {L : Fr} {h h1 h2 : Hp} {xs : Nat → Int32} {N i : Nat} {v : Int32} (hX : zx RX0 code 7 300 false Z) (hS : zsc Z N xs) (hN : N ≤ 320) (hL0 : L.2 0 = some 1000012) (hL1 : L.2 1 = some 0) (hL2 : L.2 2 = some 60) (hi : L.1 4 = Int32.ofNat i) (hiN : i + 5 ≤ N) (e1 : F_X1_loose [.ref 0, .int (xs (i + 1)), .int (xs (i + 2))] h = some (.int v, h1)) (e2 : F_X3_loose [.ref 60, .int (xs (i + 1)), .int (xs (i + 2))] h1 = some (.int v, h2)) (hcap : zcap Z h2) (kk : zw Z 7 2033 L [true, true, true, true, false] [] h2) : zw Z 7 824 L [true, true, true, true, false] [] h := by
  have iS := zinvV (cc := code) (nL := 7) (d := 300) (ini := false) lk_X0_109 (Or.inl rfl) (Nat.le_of_ble_eq_true rfl) dL_law_837
  have iM := zinvV (cc := code) (nL := 7) (d := 300) (ini := false) lk_X0_112 (Or.inl rfl) (Nat.le_of_ble_eq_true rfl) dL_law_853
  have hc1 : zcap Z h1 := zcap_le (iM.1 _ _ _ _ e2) hcap
  refine zw_aload_n (i := 1) hX rfl rfl dL_law_824 ?_
  rw [hL1]
  refine zw_arg (j := 1) hX hS hN hL0 hi (by omega) rfl rfl (by decide) dL_law_825 dL_law_826 dL_law_828 dL_law_829 dL_law_830 (Nat.le_of_ble_eq_true rfl) ?_
  refine zw_arg (j := 2) hX hS hN hL0 hi (by omega) rfl rfl (by decide) dL_law_831 dL_law_832 dL_law_834 dL_law_835 dL_law_836 (Nat.le_of_ble_eq_true rfl) ?_
  refine iS.2 Z hX L [true, true, true, true, false] [] h h1 [.ref 0, .int (xs (i + 1)), .int (xs (i + 2))] _ e1 rfl hc1 (Nat.zero_le _) ?_
  refine zw_aload_n (i := 2) hX rfl rfl dL_law_840 ?_
  rw [hL2]
  refine zw_arg (j := 1) hX hS hN hL0 hi (by omega) rfl rfl (by decide) dL_law_841 dL_law_842 dL_law_844 dL_law_845 dL_law_846 (Nat.le_of_ble_eq_true rfl) ?_
  refine zw_arg (j := 2) hX hS hN hL0 hi (by omega) rfl rfl (by decide) dL_law_847 dL_law_848 dL_law_850 dL_law_851 dL_law_852 (Nat.le_of_ble_eq_true rfl) ?_
  refine iM.2 Z hX L [true, true, true, true, false] [.int v] h1 h2 [.ref 60, .int (xs (i + 1)), .int (xs (i + 2))] _ e2 rfl hcap (Nat.le_of_ble_eq_true rfl) ?_
  exact zjT_eq dL_law_856 rfl Z hX L [true, true, true, true, false] [] h2 v v (fun _ => kk) (fun q => absurd q (by unfold zEQ; rw [decide_eq_true rfl]; decide))
theorem lk_X0_113 : zlkV RX0 113 3 0 4 F_X1_work := ⟨yX1_work, cX1_work, 4, some .int, 0, RX1, TX1, 52, M_X1_work, zrcv_vt, zcls0, (Nat.le_of_ble_eq_true rfl), q700, q701, q702, q89, q703, rfl, by decide, by decide, rfl⟩
theorem lk_X0_116 : zlkV RX0 116 3 0 3 F_X3_work := ⟨yX3_work, cX3_work, 5, some .int, 2, RX3, TX3, 52, M_X3_work, zrcv_vt, zcls2, (Nat.le_of_ble_eq_true rfl), q1409, q1410, q1411, q91, q1412, rfl, by decide, by decide, rfl⟩
theorem C_work {Z : ZK} {L : Fr} {h h1 h2 : Hp} {xs : Nat → Int32} {N i : Nat} {v : Int32} (hX : zx RX0 code 7 300 false Z) (hS : zsc Z N xs) (hN : N ≤ 320) (hL0 : L.2 0 = some 1000012) (hL1 : L.2 1 = some 0) (hL2 : L.2 2 = some 60) (hi : L.1 4 = Int32.ofNat i) (hiN : i + 5 ≤ N) (e1 : F_X1_work [.ref 0, .int (xs (i + 1)), .int (xs (i + 2)), .int (xs (i + 3))] h = some (.int v, h1)) (e2 : F_X3_work [.ref 60, .int (xs (i + 1)), .int (xs (i + 2)), .int (xs (i + 3))] h1 = some (.int v, h2)) (hcap : zcap Z h2) (kk : zw Z 7 2033 L [true, true, true, true, false] [] h2) : zw Z 7 861 L [true, true, true, true, false] [] h := by
  have iS := zinvV (cc := code) (nL := 7) (d := 300) (ini := false) lk_X0_113 (Or.inl rfl) (Nat.le_of_ble_eq_true rfl) dL_law_880
  have iM := zinvV (cc := code) (nL := 7) (d := 300) (ini := false) lk_X0_116 (Or.inl rfl) (Nat.le_of_ble_eq_true rfl) dL_law_902
  have hc1 : zcap Z h1 := zcap_le (iM.1 _ _ _ _ e2) hcap
  refine zw_aload_n (i := 1) hX rfl rfl dL_law_861 ?_
  rw [hL1]
  refine zw_arg (j := 1) hX hS hN hL0 hi (by omega) rfl rfl (by decide) dL_law_862 dL_law_863 dL_law_865 dL_law_866 dL_law_867 (Nat.le_of_ble_eq_true rfl) ?_
  refine zw_arg (j := 2) hX hS hN hL0 hi (by omega) rfl rfl (by decide) dL_law_868 dL_law_869 dL_law_871 dL_law_872 dL_law_873 (Nat.le_of_ble_eq_true rfl) ?_
  refine zw_arg (j := 3) hX hS hN hL0 hi (by omega) rfl rfl (by decide) dL_law_874 dL_law_875 dL_law_877 dL_law_878 dL_law_879 (Nat.le_of_ble_eq_true rfl) ?_
  refine iS.2 Z hX L [true, true, true, true, false] [] h h1 [.ref 0, .int (xs (i + 1)), .int (xs (i + 2)), .int (xs (i + 3))] _ e1 rfl hc1 (Nat.zero_le _) ?_
  refine zw_aload_n (i := 2) hX rfl rfl dL_law_883 ?_
  rw [hL2]
  refine zw_arg (j := 1) hX hS hN hL0 hi (by omega) rfl rfl (by decide) dL_law_884 dL_law_885 dL_law_887 dL_law_888 dL_law_889 (Nat.le_of_ble_eq_true rfl) ?_
  refine zw_arg (j := 2) hX hS hN hL0 hi (by omega) rfl rfl (by decide) dL_law_890 dL_law_891 dL_law_893 dL_law_894 dL_law_895 (Nat.le_of_ble_eq_true rfl) ?_
  refine zw_arg (j := 3) hX hS hN hL0 hi (by omega) rfl rfl (by decide) dL_law_896 dL_law_897 dL_law_899 dL_law_900 dL_law_901 (Nat.le_of_ble_eq_true rfl) ?_
  refine iM.2 Z hX L [true, true, true, true, false] [.int v] h1 h2 [.ref 60, .int (xs (i + 1)), .int (xs (i + 2)), .int (xs (i + 3))] _ e2 rfl hcap (Nat.le_of_ble_eq_true rfl) ?_
  exact zjT_eq dL_law_905 rfl Z hX L [true, true, true, true, false] [] h2 v v (fun _ => kk) (fun q => absurd q (by unfold zEQ; rw [decide_eq_true rfl]; decide))
theorem lk_X0_117 : zlkV RX0 117 0 0 125 F_X1_night := ⟨yX1_night, cX1_night, 6, some .int, 0, RX1, TX1, 52, M_X1_night, zrcv_vt, zcls0, (Nat.le_of_ble_eq_true rfl), q704, q705, q706, q89, q707, rfl, by decide, by decide, rfl⟩
theorem lk_X0_120 : zlkV RX0 120 0 0 125 F_X3_night := ⟨yX3_night, cX3_night, 4, some .int, 2, RX3, TX3, 52, M_X3_night, zrcv_vt, zcls2, (Nat.le_of_ble_eq_true rfl), q1413, q1414, q1415, q91, q1416, rfl, by decide, by decide, rfl⟩
theorem C_night {Z : ZK} {L : Fr} {h h1 h2 : Hp} {xs : Nat → Int32} {N i : Nat} {v : Int32} (hX : zx RX0 code 7 300 false Z) (hS : zsc Z N xs) (hN : N ≤ 320) (hL0 : L.2 0 = some 1000012) (hL1 : L.2 1 = some 0) (hL2 : L.2 2 = some 60) (hi : L.1 4 = Int32.ofNat i) (hiN : i + 5 ≤ N) (e1 : F_X1_night [.ref 0] h = some (.int v, h1)) (e2 : F_X3_night [.ref 60] h1 = some (.int v, h2)) (hcap : zcap Z h2) (kk : zw Z 7 2033 L [true, true, true, true, false] [] h2) : zw Z 7 910 L [true, true, true, true, false] [] h := by
  have iS := zinvV (cc := code) (nL := 7) (d := 300) (ini := false) lk_X0_117 (Or.inl rfl) (Nat.le_of_ble_eq_true rfl) dL_law_911
  have iM := zinvV (cc := code) (nL := 7) (d := 300) (ini := false) lk_X0_120 (Or.inl rfl) (Nat.le_of_ble_eq_true rfl) dL_law_915
  have hc1 : zcap Z h1 := zcap_le (iM.1 _ _ _ _ e2) hcap
  refine zw_aload_n (i := 1) hX rfl rfl dL_law_910 ?_
  rw [hL1]
  refine iS.2 Z hX L [true, true, true, true, false] [] h h1 [.ref 0] _ e1 rfl hc1 (Nat.zero_le _) ?_
  refine zw_aload_n (i := 2) hX rfl rfl dL_law_914 ?_
  rw [hL2]
  refine iM.2 Z hX L [true, true, true, true, false] [.int v] h1 h2 [.ref 60] _ e2 rfl hcap (Nat.le_of_ble_eq_true rfl) ?_
  exact zjT_eq dL_law_918 rfl Z hX L [true, true, true, true, false] [] h2 v v (fun _ => kk) (fun q => absurd q (by unfold zEQ; rw [decide_eq_true rfl]; decide))
theorem lk_X0_121 : zlkV RX0 121 0 0 2 F_X1_undo := ⟨yX1_undo, cX1_undo, 1, some .int, 0, RX1, TX1, 52, M_X1_undo, zrcv_vt, zcls0, (Nat.le_of_ble_eq_true rfl), q598, q599, q600, q89, q601, rfl, by decide, by decide, rfl⟩
theorem lk_X0_124 : zlkV RX0 124 0 0 0 F_X3_undo := ⟨yX3_undo, cX3_undo, 2, some .int, 2, RX3, TX3, 52, M_X3_undo, zrcv_vt, zcls2, (Nat.le_of_ble_eq_true rfl), q1425, q1426, q1427, q91, q1428, rfl, by decide, by decide, rfl⟩
theorem C_undo {Z : ZK} {L : Fr} {h h1 h2 : Hp} {xs : Nat → Int32} {N i : Nat} {v : Int32} (hX : zx RX0 code 7 300 false Z) (hS : zsc Z N xs) (hN : N ≤ 320) (hL0 : L.2 0 = some 1000012) (hL1 : L.2 1 = some 0) (hL2 : L.2 2 = some 60) (hi : L.1 4 = Int32.ofNat i) (hiN : i + 5 ≤ N) (e1 : F_X1_undo [.ref 0] h = some (.int v, h1)) (e2 : F_X3_undo [.ref 60] h1 = some (.int v, h2)) (hcap : zcap Z h2) (kk : zw Z 7 2033 L [true, true, true, true, false] [] h2) : zw Z 7 923 L [true, true, true, true, false] [] h := by
  have iS := zinvV (cc := code) (nL := 7) (d := 300) (ini := false) lk_X0_121 (Or.inl rfl) (Nat.le_of_ble_eq_true rfl) dL_law_924
  have iM := zinvV (cc := code) (nL := 7) (d := 300) (ini := false) lk_X0_124 (Or.inl rfl) (Nat.le_of_ble_eq_true rfl) dL_law_928
  have hc1 : zcap Z h1 := zcap_le (iM.1 _ _ _ _ e2) hcap
  refine zw_aload_n (i := 1) hX rfl rfl dL_law_923 ?_
  rw [hL1]
  refine iS.2 Z hX L [true, true, true, true, false] [] h h1 [.ref 0] _ e1 rfl hc1 (Nat.zero_le _) ?_
  refine zw_aload_n (i := 2) hX rfl rfl dL_law_927 ?_
  rw [hL2]
  refine iM.2 Z hX L [true, true, true, true, false] [.int v] h1 h2 [.ref 60] _ e2 rfl hcap (Nat.le_of_ble_eq_true rfl) ?_
  exact zjT_eq dL_law_931 rfl Z hX L [true, true, true, true, false] [] h2 v v (fun _ => kk) (fun q => absurd q (by unfold zEQ; rw [decide_eq_true rfl]; decide))
theorem lk_X0_125 : zlkV RX0 125 0 0 31 F_X1_ring := ⟨yX1_ring, cX1_ring, 2, some .int, 0, RX1, TX1, 52, M_X1_ring, zrcv_vt, zcls0, (Nat.le_of_ble_eq_true rfl), q725, q726, q727, q89, q728, rfl, by decide, by decide, rfl⟩
theorem lk_X0_128 : zlkV RX0 128 0 0 31 F_X3_ring := ⟨yX3_ring, cX3_ring, 3, some .int, 2, RX3, TX3, 52, M_X3_ring, zrcv_vt, zcls2, (Nat.le_of_ble_eq_true rfl), q1429, q1430, q1431, q91, q1432, rfl, by decide, by decide, rfl⟩
theorem C_ring {Z : ZK} {L : Fr} {h h1 h2 : Hp} {xs : Nat → Int32} {N i : Nat} {v : Int32} (hX : zx RX0 code 7 300 false Z) (hS : zsc Z N xs) (hN : N ≤ 320) (hL0 : L.2 0 = some 1000012) (hL1 : L.2 1 = some 0) (hL2 : L.2 2 = some 60) (hi : L.1 4 = Int32.ofNat i) (hiN : i + 5 ≤ N) (e1 : F_X1_ring [.ref 0] h = some (.int v, h1)) (e2 : F_X3_ring [.ref 60] h1 = some (.int v, h2)) (hcap : zcap Z h2) (kk : zw Z 7 2033 L [true, true, true, true, false] [] h2) : zw Z 7 936 L [true, true, true, true, false] [] h := by
  have iS := zinvV (cc := code) (nL := 7) (d := 300) (ini := false) lk_X0_125 (Or.inl rfl) (Nat.le_of_ble_eq_true rfl) dL_law_937
  have iM := zinvV (cc := code) (nL := 7) (d := 300) (ini := false) lk_X0_128 (Or.inl rfl) (Nat.le_of_ble_eq_true rfl) dL_law_941
  have hc1 : zcap Z h1 := zcap_le (iM.1 _ _ _ _ e2) hcap
  refine zw_aload_n (i := 1) hX rfl rfl dL_law_936 ?_
  rw [hL1]
  refine iS.2 Z hX L [true, true, true, true, false] [] h h1 [.ref 0] _ e1 rfl hc1 (Nat.zero_le _) ?_
  refine zw_aload_n (i := 2) hX rfl rfl dL_law_940 ?_
  rw [hL2]
  refine iM.2 Z hX L [true, true, true, true, false] [.int v] h1 h2 [.ref 60] _ e2 rfl hcap (Nat.le_of_ble_eq_true rfl) ?_
  exact zjT_eq dL_law_944 rfl Z hX L [true, true, true, true, false] [] h2 v v (fun _ => kk) (fun q => absurd q (by unfold zEQ; rw [decide_eq_true rfl]; decide))
theorem lk_X0_129 : zlkV RX0 129 0 0 31 F_X1_cancel := ⟨yX1_cancel, cX1_cancel, 1, some .int, 0, RX1, TX1, 52, M_X1_cancel, zrcv_vt, zcls0, (Nat.le_of_ble_eq_true rfl), q749, q750, q751, q89, q752, rfl, by decide, by decide, rfl⟩
theorem lk_X0_132 : zlkV RX0 132 0 0 31 F_X3_cancel := ⟨yX3_cancel, cX3_cancel, 2, some .int, 2, RX3, TX3, 52, M_X3_cancel, zrcv_vt, zcls2, (Nat.le_of_ble_eq_true rfl), q1442, q1443, q1444, q91, q1445, rfl, by decide, by decide, rfl⟩
theorem C_cancel {Z : ZK} {L : Fr} {h h1 h2 : Hp} {xs : Nat → Int32} {N i : Nat} {v : Int32} (hX : zx RX0 code 7 300 false Z) (hS : zsc Z N xs) (hN : N ≤ 320) (hL0 : L.2 0 = some 1000012) (hL1 : L.2 1 = some 0) (hL2 : L.2 2 = some 60) (hi : L.1 4 = Int32.ofNat i) (hiN : i + 5 ≤ N) (e1 : F_X1_cancel [.ref 0] h = some (.int v, h1)) (e2 : F_X3_cancel [.ref 60] h1 = some (.int v, h2)) (hcap : zcap Z h2) (kk : zw Z 7 2033 L [true, true, true, true, false] [] h2) : zw Z 7 949 L [true, true, true, true, false] [] h := by
  have iS := zinvV (cc := code) (nL := 7) (d := 300) (ini := false) lk_X0_129 (Or.inl rfl) (Nat.le_of_ble_eq_true rfl) dL_law_950
  have iM := zinvV (cc := code) (nL := 7) (d := 300) (ini := false) lk_X0_132 (Or.inl rfl) (Nat.le_of_ble_eq_true rfl) dL_law_954
  have hc1 : zcap Z h1 := zcap_le (iM.1 _ _ _ _ e2) hcap
  refine zw_aload_n (i := 1) hX rfl rfl dL_law_949 ?_
  rw [hL1]
  refine iS.2 Z hX L [true, true, true, true, false] [] h h1 [.ref 0] _ e1 rfl hc1 (Nat.zero_le _) ?_
  refine zw_aload_n (i := 2) hX rfl rfl dL_law_953 ?_
  rw [hL2]
  refine iM.2 Z hX L [true, true, true, true, false] [.int v] h1 h2 [.ref 60] _ e2 rfl hcap (Nat.le_of_ble_eq_true rfl) ?_
  exact zjT_eq dL_law_957 rfl Z hX L [true, true, true, true, false] [] h2 v v (fun _ => kk) (fun q => absurd q (by unfold zEQ; rw [decide_eq_true rfl]; decide))
theorem lk_X0_133 : zlkV RX0 133 0 0 31 F_X1_rings := ⟨yX1_rings, cX1_rings, 3, some .int, 0, RX1, TX1, 52, M_X1_rings, zrcv_vt, zcls0, (Nat.le_of_ble_eq_true rfl), q757, q758, q759, q89, q760, rfl, by decide, by decide, rfl⟩
theorem lk_X0_136 : zlkV RX0 136 0 0 31 F_X3_rings := ⟨yX3_rings, cX3_rings, 4, some .int, 2, RX3, TX3, 52, M_X3_rings, zrcv_vt, zcls2, (Nat.le_of_ble_eq_true rfl), q1450, q1451, q1452, q91, q1453, rfl, by decide, by decide, rfl⟩
theorem C_rings {Z : ZK} {L : Fr} {h h1 h2 : Hp} {xs : Nat → Int32} {N i : Nat} {v : Int32} (hX : zx RX0 code 7 300 false Z) (hS : zsc Z N xs) (hN : N ≤ 320) (hL0 : L.2 0 = some 1000012) (hL1 : L.2 1 = some 0) (hL2 : L.2 2 = some 60) (hi : L.1 4 = Int32.ofNat i) (hiN : i + 5 ≤ N) (e1 : F_X1_rings [.ref 0] h = some (.int v, h1)) (e2 : F_X3_rings [.ref 60] h1 = some (.int v, h2)) (hcap : zcap Z h2) (kk : zw Z 7 2033 L [true, true, true, true, false] [] h2) : zw Z 7 962 L [true, true, true, true, false] [] h := by
  have iS := zinvV (cc := code) (nL := 7) (d := 300) (ini := false) lk_X0_133 (Or.inl rfl) (Nat.le_of_ble_eq_true rfl) dL_law_963
  have iM := zinvV (cc := code) (nL := 7) (d := 300) (ini := false) lk_X0_136 (Or.inl rfl) (Nat.le_of_ble_eq_true rfl) dL_law_967
  have hc1 : zcap Z h1 := zcap_le (iM.1 _ _ _ _ e2) hcap
  refine zw_aload_n (i := 1) hX rfl rfl dL_law_962 ?_
  rw [hL1]
  refine iS.2 Z hX L [true, true, true, true, false] [] h h1 [.ref 0] _ e1 rfl hc1 (Nat.zero_le _) ?_
  refine zw_aload_n (i := 2) hX rfl rfl dL_law_966 ?_
  rw [hL2]
  refine iM.2 Z hX L [true, true, true, true, false] [.int v] h1 h2 [.ref 60] _ e2 rfl hcap (Nat.le_of_ble_eq_true rfl) ?_
  exact zjT_eq dL_law_970 rfl Z hX L [true, true, true, true, false] [] h2 v v (fun _ => kk) (fun q => absurd q (by unfold zEQ; rw [decide_eq_true rfl]; decide))
theorem lk_X0_140 : zlkV RX0 140 1 0 2 F_X3_net := ⟨yX3_net, cX3_net, 2, some .int, 2, RX3, TX3, 52, M_X3_net, zrcv_vt, zcls2, (Nat.le_of_ble_eq_true rfl), q1454, q1455, q1456, q91, q1457, rfl, by decide, by decide, rfl⟩
theorem lk_X0_141 : zlkV RX0 141 0 0 1 F_X1_least := ⟨yX1_least, cX1_least, 3, some .int, 0, RX1, TX1, 52, M_X1_least, zrcv_vt, zcls0, (Nat.le_of_ble_eq_true rfl), q761, q762, q763, q89, q764, rfl, by decide, by decide, rfl⟩
theorem lk_X0_144 : zlkV RX0 144 0 0 2 F_X3_least := ⟨yX3_least, cX3_least, 3, some .int, 2, RX3, TX3, 52, M_X3_least, zrcv_vt, zcls2, (Nat.le_of_ble_eq_true rfl), q1462, q1463, q1464, q91, q1465, rfl, by decide, by decide, rfl⟩
theorem C_least {Z : ZK} {L : Fr} {h h1 h2 : Hp} {xs : Nat → Int32} {N i : Nat} {v : Int32} (hX : zx RX0 code 7 300 false Z) (hS : zsc Z N xs) (hN : N ≤ 320) (hL0 : L.2 0 = some 1000012) (hL1 : L.2 1 = some 0) (hL2 : L.2 2 = some 60) (hi : L.1 4 = Int32.ofNat i) (hiN : i + 5 ≤ N) (e1 : F_X1_least [.ref 0] h = some (.int v, h1)) (e2 : F_X3_least [.ref 60] h1 = some (.int v, h2)) (hcap : zcap Z h2) (kk : zw Z 7 2033 L [true, true, true, true, false] [] h2) : zw Z 7 1031 L [true, true, true, true, false] [] h := by
  have iS := zinvV (cc := code) (nL := 7) (d := 300) (ini := false) lk_X0_141 (Or.inl rfl) (Nat.le_of_ble_eq_true rfl) dL_law_1032
  have iM := zinvV (cc := code) (nL := 7) (d := 300) (ini := false) lk_X0_144 (Or.inl rfl) (Nat.le_of_ble_eq_true rfl) dL_law_1036
  have hc1 : zcap Z h1 := zcap_le (iM.1 _ _ _ _ e2) hcap
  refine zw_aload_n (i := 1) hX rfl rfl dL_law_1031 ?_
  rw [hL1]
  refine iS.2 Z hX L [true, true, true, true, false] [] h h1 [.ref 0] _ e1 rfl hc1 (Nat.zero_le _) ?_
  refine zw_aload_n (i := 2) hX rfl rfl dL_law_1035 ?_
  rw [hL2]
  refine iM.2 Z hX L [true, true, true, true, false] [.int v] h1 h2 [.ref 60] _ e2 rfl hcap (Nat.le_of_ble_eq_true rfl) ?_
  exact zjT_eq dL_law_1039 rfl Z hX L [true, true, true, true, false] [] h2 v v (fun _ => kk) (fun q => absurd q (by unfold zEQ; rw [decide_eq_true rfl]; decide))
theorem lk_X0_145 : zlkV RX0 145 0 0 4 F_X1_even := ⟨yX1_even, cX1_even, 6, some .int, 0, RX1, TX1, 52, M_X1_even, zrcv_vt, zcls0, (Nat.le_of_ble_eq_true rfl), q777, q778, q779, q89, q780, rfl, by decide, by decide, rfl⟩
theorem lk_X0_148 : zlkV RX0 148 0 0 2 F_X3_even := ⟨yX3_even, cX3_even, 6, some .int, 2, RX3, TX3, 52, M_X3_even, zrcv_vt, zcls2, (Nat.le_of_ble_eq_true rfl), q1470, q1471, q1472, q91, q1473, rfl, by decide, by decide, rfl⟩
theorem C_even {Z : ZK} {L : Fr} {h h1 h2 : Hp} {xs : Nat → Int32} {N i : Nat} {v : Int32} (hX : zx RX0 code 7 300 false Z) (hS : zsc Z N xs) (hN : N ≤ 320) (hL0 : L.2 0 = some 1000012) (hL1 : L.2 1 = some 0) (hL2 : L.2 2 = some 60) (hi : L.1 4 = Int32.ofNat i) (hiN : i + 5 ≤ N) (e1 : F_X1_even [.ref 0] h = some (.int v, h1)) (e2 : F_X3_even [.ref 60] h1 = some (.int v, h2)) (hcap : zcap Z h2) (kk : zw Z 7 2033 L [true, true, true, true, false] [] h2) : zw Z 7 1044 L [true, true, true, true, false] [] h := by
  have iS := zinvV (cc := code) (nL := 7) (d := 300) (ini := false) lk_X0_145 (Or.inl rfl) (Nat.le_of_ble_eq_true rfl) dL_law_1045
  have iM := zinvV (cc := code) (nL := 7) (d := 300) (ini := false) lk_X0_148 (Or.inl rfl) (Nat.le_of_ble_eq_true rfl) dL_law_1049
  have hc1 : zcap Z h1 := zcap_le (iM.1 _ _ _ _ e2) hcap
  refine zw_aload_n (i := 1) hX rfl rfl dL_law_1044 ?_
  rw [hL1]
  refine iS.2 Z hX L [true, true, true, true, false] [] h h1 [.ref 0] _ e1 rfl hc1 (Nat.zero_le _) ?_
  refine zw_aload_n (i := 2) hX rfl rfl dL_law_1048 ?_
  rw [hL2]
  refine iM.2 Z hX L [true, true, true, true, false] [.int v] h1 h2 [.ref 60] _ e2 rfl hcap (Nat.le_of_ble_eq_true rfl) ?_
  exact zjT_eq dL_law_1052 rfl Z hX L [true, true, true, true, false] [] h2 v v (fun _ => kk) (fun q => absurd q (by unfold zEQ; rw [decide_eq_true rfl]; decide))
theorem lk_X0_149 : zlkV RX0 149 0 0 1 F_X1_debtor := ⟨yX1_debtor, cX1_debtor, 5, some .int, 0, RX1, TX1, 52, M_X1_debtor, zrcv_vt, zcls0, (Nat.le_of_ble_eq_true rfl), q781, q782, q783, q89, q784, rfl, by decide, by decide, rfl⟩
theorem lk_X0_152 : zlkV RX0 152 0 0 2 F_X3_debtor := ⟨yX3_debtor, cX3_debtor, 4, some .int, 2, RX3, TX3, 52, M_X3_debtor, zrcv_vt, zcls2, (Nat.le_of_ble_eq_true rfl), q1474, q1475, q1476, q91, q1477, rfl, by decide, by decide, rfl⟩
theorem C_debtor {Z : ZK} {L : Fr} {h h1 h2 : Hp} {xs : Nat → Int32} {N i : Nat} {v : Int32} (hX : zx RX0 code 7 300 false Z) (hS : zsc Z N xs) (hN : N ≤ 320) (hL0 : L.2 0 = some 1000012) (hL1 : L.2 1 = some 0) (hL2 : L.2 2 = some 60) (hi : L.1 4 = Int32.ofNat i) (hiN : i + 5 ≤ N) (e1 : F_X1_debtor [.ref 0] h = some (.int v, h1)) (e2 : F_X3_debtor [.ref 60] h1 = some (.int v, h2)) (hcap : zcap Z h2) (kk : zw Z 7 2033 L [true, true, true, true, false] [] h2) : zw Z 7 1057 L [true, true, true, true, false] [] h := by
  have iS := zinvV (cc := code) (nL := 7) (d := 300) (ini := false) lk_X0_149 (Or.inl rfl) (Nat.le_of_ble_eq_true rfl) dL_law_1058
  have iM := zinvV (cc := code) (nL := 7) (d := 300) (ini := false) lk_X0_152 (Or.inl rfl) (Nat.le_of_ble_eq_true rfl) dL_law_1062
  have hc1 : zcap Z h1 := zcap_le (iM.1 _ _ _ _ e2) hcap
  refine zw_aload_n (i := 1) hX rfl rfl dL_law_1057 ?_
  rw [hL1]
  refine iS.2 Z hX L [true, true, true, true, false] [] h h1 [.ref 0] _ e1 rfl hc1 (Nat.zero_le _) ?_
  refine zw_aload_n (i := 2) hX rfl rfl dL_law_1061 ?_
  rw [hL2]
  refine iM.2 Z hX L [true, true, true, true, false] [.int v] h1 h2 [.ref 60] _ e2 rfl hcap (Nat.le_of_ble_eq_true rfl) ?_
  exact zjT_eq dL_law_1065 rfl Z hX L [true, true, true, true, false] [] h2 v v (fun _ => kk) (fun q => absurd q (by unfold zEQ; rw [decide_eq_true rfl]; decide))
theorem lk_X0_153 : zlkV RX0 153 0 0 1 F_X1_june := ⟨yX1_june, cX1_june, 4, some .int, 0, RX1, TX1, 52, M_X1_june, zrcv_vt, zcls0, (Nat.le_of_ble_eq_true rfl), q785, q786, q787, q89, q788, rfl, by decide, by decide, rfl⟩
theorem lk_X0_156 : zlkV RX0 156 0 0 2 F_X3_june := ⟨yX3_june, cX3_june, 2, some .int, 2, RX3, TX3, 52, M_X3_june, zrcv_vt, zcls2, (Nat.le_of_ble_eq_true rfl), q1482, q1483, q1484, q91, q1485, rfl, by decide, by decide, rfl⟩
theorem C_june {Z : ZK} {L : Fr} {h h1 h2 : Hp} {xs : Nat → Int32} {N i : Nat} {v : Int32} (hX : zx RX0 code 7 300 false Z) (hS : zsc Z N xs) (hN : N ≤ 320) (hL0 : L.2 0 = some 1000012) (hL1 : L.2 1 = some 0) (hL2 : L.2 2 = some 60) (hi : L.1 4 = Int32.ofNat i) (hiN : i + 5 ≤ N) (e1 : F_X1_june [.ref 0] h = some (.int v, h1)) (e2 : F_X3_june [.ref 60] h1 = some (.int v, h2)) (hcap : zcap Z h2) (kk : zw Z 7 2033 L [true, true, true, true, false] [] h2) : zw Z 7 1070 L [true, true, true, true, false] [] h := by
  have iS := zinvV (cc := code) (nL := 7) (d := 300) (ini := false) lk_X0_153 (Or.inl rfl) (Nat.le_of_ble_eq_true rfl) dL_law_1071
  have iM := zinvV (cc := code) (nL := 7) (d := 300) (ini := false) lk_X0_156 (Or.inl rfl) (Nat.le_of_ble_eq_true rfl) dL_law_1075
  have hc1 : zcap Z h1 := zcap_le (iM.1 _ _ _ _ e2) hcap
  refine zw_aload_n (i := 1) hX rfl rfl dL_law_1070 ?_
  rw [hL1]
  refine iS.2 Z hX L [true, true, true, true, false] [] h h1 [.ref 0] _ e1 rfl hc1 (Nat.zero_le _) ?_
  refine zw_aload_n (i := 2) hX rfl rfl dL_law_1074 ?_
  rw [hL2]
  refine iM.2 Z hX L [true, true, true, true, false] [.int v] h1 h2 [.ref 60] _ e2 rfl hcap (Nat.le_of_ble_eq_true rfl) ?_
  exact zjT_eq dL_law_1078 rfl Z hX L [true, true, true, true, false] [] h2 v v (fun _ => kk) (fun q => absurd q (by unfold zEQ; rw [decide_eq_true rfl]; decide))
theorem lk_X0_157 : zlkV RX0 157 1 0 3 F_X1_hay := ⟨yX1_hay, cX1_hay, 4, some .int, 0, RX1, TX1, 52, M_X1_hay, zrcv_vt, zcls0, (Nat.le_of_ble_eq_true rfl), q789, q790, q791, q89, q792, rfl, by decide, by decide, rfl⟩
theorem lk_X0_160 : zlkV RX0 160 1 0 3 F_X3_hay := ⟨yX3_hay, cX3_hay, 5, some .int, 2, RX3, TX3, 52, M_X3_hay, zrcv_vt, zcls2, (Nat.le_of_ble_eq_true rfl), q1486, q1487, q1488, q91, q1489, rfl, by decide, by decide, rfl⟩
theorem C_hay {Z : ZK} {L : Fr} {h h1 h2 : Hp} {xs : Nat → Int32} {N i : Nat} {v : Int32} (hX : zx RX0 code 7 300 false Z) (hS : zsc Z N xs) (hN : N ≤ 320) (hL0 : L.2 0 = some 1000012) (hL1 : L.2 1 = some 0) (hL2 : L.2 2 = some 60) (hi : L.1 4 = Int32.ofNat i) (hiN : i + 5 ≤ N) (e1 : F_X1_hay [.ref 0, .int (xs (i + 1))] h = some (.int v, h1)) (e2 : F_X3_hay [.ref 60, .int (xs (i + 1))] h1 = some (.int v, h2)) (hcap : zcap Z h2) (kk : zw Z 7 2033 L [true, true, true, true, false] [] h2) : zw Z 7 1083 L [true, true, true, true, false] [] h := by
  have iS := zinvV (cc := code) (nL := 7) (d := 300) (ini := false) lk_X0_157 (Or.inl rfl) (Nat.le_of_ble_eq_true rfl) dL_law_1090
  have iM := zinvV (cc := code) (nL := 7) (d := 300) (ini := false) lk_X0_160 (Or.inl rfl) (Nat.le_of_ble_eq_true rfl) dL_law_1100
  have hc1 : zcap Z h1 := zcap_le (iM.1 _ _ _ _ e2) hcap
  refine zw_aload_n (i := 1) hX rfl rfl dL_law_1083 ?_
  rw [hL1]
  refine zw_arg (j := 1) hX hS hN hL0 hi (by omega) rfl rfl (by decide) dL_law_1084 dL_law_1085 dL_law_1087 dL_law_1088 dL_law_1089 (Nat.le_of_ble_eq_true rfl) ?_
  refine iS.2 Z hX L [true, true, true, true, false] [] h h1 [.ref 0, .int (xs (i + 1))] _ e1 rfl hc1 (Nat.zero_le _) ?_
  refine zw_aload_n (i := 2) hX rfl rfl dL_law_1093 ?_
  rw [hL2]
  refine zw_arg (j := 1) hX hS hN hL0 hi (by omega) rfl rfl (by decide) dL_law_1094 dL_law_1095 dL_law_1097 dL_law_1098 dL_law_1099 (Nat.le_of_ble_eq_true rfl) ?_
  refine iM.2 Z hX L [true, true, true, true, false] [.int v] h1 h2 [.ref 60, .int (xs (i + 1))] _ e2 rfl hcap (Nat.le_of_ble_eq_true rfl) ?_
  exact zjT_eq dL_law_1103 rfl Z hX L [true, true, true, true, false] [] h2 v v (fun _ => kk) (fun q => absurd q (by unfold zEQ; rw [decide_eq_true rfl]; decide))
theorem lk_X0_161 : zlkV RX0 161 2 0 2 F_X1_works := ⟨yX1_works, cX1_works, 5, some .int, 0, RX1, TX1, 52, M_X1_works, zrcv_vt, zcls0, (Nat.le_of_ble_eq_true rfl), q801, q802, q803, q89, q804, rfl, by decide, by decide, rfl⟩
theorem lk_X0_164 : zlkV RX0 164 2 0 2 F_X3_works := ⟨yX3_works, cX3_works, 5, some .int, 2, RX3, TX3, 52, M_X3_works, zrcv_vt, zcls2, (Nat.le_of_ble_eq_true rfl), q1498, q1499, q1500, q91, q1501, rfl, by decide, by decide, rfl⟩
theorem C_works {Z : ZK} {L : Fr} {h h1 h2 : Hp} {xs : Nat → Int32} {N i : Nat} {v : Int32} (hX : zx RX0 code 7 300 false Z) (hS : zsc Z N xs) (hN : N ≤ 320) (hL0 : L.2 0 = some 1000012) (hL1 : L.2 1 = some 0) (hL2 : L.2 2 = some 60) (hi : L.1 4 = Int32.ofNat i) (hiN : i + 5 ≤ N) (e1 : F_X1_works [.ref 0, .int (xs (i + 1)), .int (xs (i + 2))] h = some (.int v, h1)) (e2 : F_X3_works [.ref 60, .int (xs (i + 1)), .int (xs (i + 2))] h1 = some (.int v, h2)) (hcap : zcap Z h2) (kk : zw Z 7 2033 L [true, true, true, true, false] [] h2) : zw Z 7 1108 L [true, true, true, true, false] [] h := by
  have iS := zinvV (cc := code) (nL := 7) (d := 300) (ini := false) lk_X0_161 (Or.inl rfl) (Nat.le_of_ble_eq_true rfl) dL_law_1121
  have iM := zinvV (cc := code) (nL := 7) (d := 300) (ini := false) lk_X0_164 (Or.inl rfl) (Nat.le_of_ble_eq_true rfl) dL_law_1137
  have hc1 : zcap Z h1 := zcap_le (iM.1 _ _ _ _ e2) hcap
  refine zw_aload_n (i := 1) hX rfl rfl dL_law_1108 ?_
  rw [hL1]
  refine zw_arg (j := 1) hX hS hN hL0 hi (by omega) rfl rfl (by decide) dL_law_1109 dL_law_1110 dL_law_1112 dL_law_1113 dL_law_1114 (Nat.le_of_ble_eq_true rfl) ?_
  refine zw_arg (j := 2) hX hS hN hL0 hi (by omega) rfl rfl (by decide) dL_law_1115 dL_law_1116 dL_law_1118 dL_law_1119 dL_law_1120 (Nat.le_of_ble_eq_true rfl) ?_
  refine iS.2 Z hX L [true, true, true, true, false] [] h h1 [.ref 0, .int (xs (i + 1)), .int (xs (i + 2))] _ e1 rfl hc1 (Nat.zero_le _) ?_
  refine zw_aload_n (i := 2) hX rfl rfl dL_law_1124 ?_
  rw [hL2]
  refine zw_arg (j := 1) hX hS hN hL0 hi (by omega) rfl rfl (by decide) dL_law_1125 dL_law_1126 dL_law_1128 dL_law_1129 dL_law_1130 (Nat.le_of_ble_eq_true rfl) ?_
  refine zw_arg (j := 2) hX hS hN hL0 hi (by omega) rfl rfl (by decide) dL_law_1131 dL_law_1132 dL_law_1134 dL_law_1135 dL_law_1136 (Nat.le_of_ble_eq_true rfl) ?_
  refine iM.2 Z hX L [true, true, true, true, false] [.int v] h1 h2 [.ref 60, .int (xs (i + 1)), .int (xs (i + 2))] _ e2 rfl hcap (Nat.le_of_ble_eq_true rfl) ?_
  exact zjT_eq dL_law_1140 rfl Z hX L [true, true, true, true, false] [] h2 v v (fun _ => kk) (fun q => absurd q (by unfold zEQ; rw [decide_eq_true rfl]; decide))
theorem lk_X0_165 : zlkV RX0 165 0 0 3 F_X1_summer := ⟨yX1_summer, cX1_summer, 2, some .int, 0, RX1, TX1, 52, M_X1_summer, zrcv_vt, zcls0, (Nat.le_of_ble_eq_true rfl), q805, q806, q807, q89, q808, rfl, by decide, by decide, rfl⟩
theorem lk_X0_168 : zlkV RX0 168 0 0 3 F_X3_summer := ⟨yX3_summer, cX3_summer, 2, some .int, 2, RX3, TX3, 52, M_X3_summer, zrcv_vt, zcls2, (Nat.le_of_ble_eq_true rfl), q1502, q1503, q1504, q91, q1505, rfl, by decide, by decide, rfl⟩
theorem C_summer {Z : ZK} {L : Fr} {h h1 h2 : Hp} {xs : Nat → Int32} {N i : Nat} {v : Int32} (hX : zx RX0 code 7 300 false Z) (hS : zsc Z N xs) (hN : N ≤ 320) (hL0 : L.2 0 = some 1000012) (hL1 : L.2 1 = some 0) (hL2 : L.2 2 = some 60) (hi : L.1 4 = Int32.ofNat i) (hiN : i + 5 ≤ N) (e1 : F_X1_summer [.ref 0] h = some (.int v, h1)) (e2 : F_X3_summer [.ref 60] h1 = some (.int v, h2)) (hcap : zcap Z h2) (kk : zw Z 7 2033 L [true, true, true, true, false] [] h2) : zw Z 7 1145 L [true, true, true, true, false] [] h := by
  have iS := zinvV (cc := code) (nL := 7) (d := 300) (ini := false) lk_X0_165 (Or.inl rfl) (Nat.le_of_ble_eq_true rfl) dL_law_1146
  have iM := zinvV (cc := code) (nL := 7) (d := 300) (ini := false) lk_X0_168 (Or.inl rfl) (Nat.le_of_ble_eq_true rfl) dL_law_1150
  have hc1 : zcap Z h1 := zcap_le (iM.1 _ _ _ _ e2) hcap
  refine zw_aload_n (i := 1) hX rfl rfl dL_law_1145 ?_
  rw [hL1]
  refine iS.2 Z hX L [true, true, true, true, false] [] h h1 [.ref 0] _ e1 rfl hc1 (Nat.zero_le _) ?_
  refine zw_aload_n (i := 2) hX rfl rfl dL_law_1149 ?_
  rw [hL2]
  refine iM.2 Z hX L [true, true, true, true, false] [.int v] h1 h2 [.ref 60] _ e2 rfl hcap (Nat.le_of_ble_eq_true rfl) ?_
  exact zjT_eq dL_law_1153 rfl Z hX L [true, true, true, true, false] [] h2 v v (fun _ => kk) (fun q => absurd q (by unfold zEQ; rw [decide_eq_true rfl]; decide))
theorem lk_X0_169 : zlkV RX0 169 1 0 124 F_X1_ahead := ⟨yX1_ahead, cX1_ahead, 3, some .int, 0, RX1, TX1, 52, M_X1_ahead, zrcv_vt, zcls0, (Nat.le_of_ble_eq_true rfl), q809, q810, q811, q89, q812, rfl, by decide, by decide, rfl⟩
theorem lk_X0_172 : zlkV RX0 172 1 0 125 F_X3_ahead := ⟨yX3_ahead, cX3_ahead, 3, some .int, 2, RX3, TX3, 52, M_X3_ahead, zrcv_vt, zcls2, (Nat.le_of_ble_eq_true rfl), q1506, q1507, q1508, q91, q1509, rfl, by decide, by decide, rfl⟩
theorem C_ahead {Z : ZK} {L : Fr} {h h1 h2 : Hp} {xs : Nat → Int32} {N i : Nat} {v : Int32} (hX : zx RX0 code 7 300 false Z) (hS : zsc Z N xs) (hN : N ≤ 320) (hL0 : L.2 0 = some 1000012) (hL1 : L.2 1 = some 0) (hL2 : L.2 2 = some 60) (hi : L.1 4 = Int32.ofNat i) (hiN : i + 5 ≤ N) (e1 : F_X1_ahead [.ref 0, .int (xs (i + 1))] h = some (.int v, h1)) (e2 : F_X3_ahead [.ref 60, .int (xs (i + 1))] h1 = some (.int v, h2)) (hcap : zcap Z h2) (kk : zw Z 7 2033 L [true, true, true, true, false] [] h2) : zw Z 7 1158 L [true, true, true, true, false] [] h := by
  have iS := zinvV (cc := code) (nL := 7) (d := 300) (ini := false) lk_X0_169 (Or.inl rfl) (Nat.le_of_ble_eq_true rfl) dL_law_1165
  have iM := zinvV (cc := code) (nL := 7) (d := 300) (ini := false) lk_X0_172 (Or.inl rfl) (Nat.le_of_ble_eq_true rfl) dL_law_1175
  have hc1 : zcap Z h1 := zcap_le (iM.1 _ _ _ _ e2) hcap
  refine zw_aload_n (i := 1) hX rfl rfl dL_law_1158 ?_
  rw [hL1]
  refine zw_arg (j := 1) hX hS hN hL0 hi (by omega) rfl rfl (by decide) dL_law_1159 dL_law_1160 dL_law_1162 dL_law_1163 dL_law_1164 (Nat.le_of_ble_eq_true rfl) ?_
  refine iS.2 Z hX L [true, true, true, true, false] [] h h1 [.ref 0, .int (xs (i + 1))] _ e1 rfl hc1 (Nat.zero_le _) ?_
  refine zw_aload_n (i := 2) hX rfl rfl dL_law_1168 ?_
  rw [hL2]
  refine zw_arg (j := 1) hX hS hN hL0 hi (by omega) rfl rfl (by decide) dL_law_1169 dL_law_1170 dL_law_1172 dL_law_1173 dL_law_1174 (Nat.le_of_ble_eq_true rfl) ?_
  refine iM.2 Z hX L [true, true, true, true, false] [.int v] h1 h2 [.ref 60, .int (xs (i + 1))] _ e2 rfl hcap (Nat.le_of_ble_eq_true rfl) ?_
  exact zjT_eq dL_law_1178 rfl Z hX L [true, true, true, true, false] [] h2 v v (fun _ => kk) (fun q => absurd q (by unfold zEQ; rw [decide_eq_true rfl]; decide))
theorem lk_X0_173 : zlkV RX0 173 1 0 123 F_X1_slides := ⟨yX1_slides, cX1_slides, 4, some .int, 0, RX1, TX1, 52, M_X1_slides, zrcv_vt, zcls0, (Nat.le_of_ble_eq_true rfl), q813, q814, q815, q89, q816, rfl, by decide, by decide, rfl⟩
theorem lk_X0_176 : zlkV RX0 176 1 0 124 F_X3_slides := ⟨yX3_slides, cX3_slides, 5, some .int, 2, RX3, TX3, 52, M_X3_slides, zrcv_vt, zcls2, (Nat.le_of_ble_eq_true rfl), q1517, q1518, q1519, q91, q1520, rfl, by decide, by decide, rfl⟩
theorem C_slides {Z : ZK} {L : Fr} {h h1 h2 : Hp} {xs : Nat → Int32} {N i : Nat} {v : Int32} (hX : zx RX0 code 7 300 false Z) (hS : zsc Z N xs) (hN : N ≤ 320) (hL0 : L.2 0 = some 1000012) (hL1 : L.2 1 = some 0) (hL2 : L.2 2 = some 60) (hi : L.1 4 = Int32.ofNat i) (hiN : i + 5 ≤ N) (e1 : F_X1_slides [.ref 0, .int (xs (i + 1))] h = some (.int v, h1)) (e2 : F_X3_slides [.ref 60, .int (xs (i + 1))] h1 = some (.int v, h2)) (hcap : zcap Z h2) (kk : zw Z 7 2033 L [true, true, true, true, false] [] h2) : zw Z 7 1183 L [true, true, true, true, false] [] h := by
  have iS := zinvV (cc := code) (nL := 7) (d := 300) (ini := false) lk_X0_173 (Or.inl rfl) (Nat.le_of_ble_eq_true rfl) dL_law_1190
  have iM := zinvV (cc := code) (nL := 7) (d := 300) (ini := false) lk_X0_176 (Or.inl rfl) (Nat.le_of_ble_eq_true rfl) dL_law_1200
  have hc1 : zcap Z h1 := zcap_le (iM.1 _ _ _ _ e2) hcap
  refine zw_aload_n (i := 1) hX rfl rfl dL_law_1183 ?_
  rw [hL1]
  refine zw_arg (j := 1) hX hS hN hL0 hi (by omega) rfl rfl (by decide) dL_law_1184 dL_law_1185 dL_law_1187 dL_law_1188 dL_law_1189 (Nat.le_of_ble_eq_true rfl) ?_
  refine iS.2 Z hX L [true, true, true, true, false] [] h h1 [.ref 0, .int (xs (i + 1))] _ e1 rfl hc1 (Nat.zero_le _) ?_
  refine zw_aload_n (i := 2) hX rfl rfl dL_law_1193 ?_
  rw [hL2]
  refine zw_arg (j := 1) hX hS hN hL0 hi (by omega) rfl rfl (by decide) dL_law_1194 dL_law_1195 dL_law_1197 dL_law_1198 dL_law_1199 (Nat.le_of_ble_eq_true rfl) ?_
  refine iM.2 Z hX L [true, true, true, true, false] [.int v] h1 h2 [.ref 60, .int (xs (i + 1))] _ e2 rfl hcap (Nat.le_of_ble_eq_true rfl) ?_
  exact zjT_eq dL_law_1203 rfl Z hX L [true, true, true, true, false] [] h2 v v (fun _ => kk) (fun q => absurd q (by unfold zEQ; rw [decide_eq_true rfl]; decide))
theorem lk_X0_177 : zlkV RX0 177 2 0 124 F_X1_later := ⟨yX1_later, cX1_later, 4, some .int, 0, RX1, TX1, 52, M_X1_later, zrcv_vt, zcls0, (Nat.le_of_ble_eq_true rfl), q817, q818, q819, q89, q820, rfl, by decide, by decide, rfl⟩
theorem lk_X0_180 : zlkV RX0 180 2 0 125 F_X3_later := ⟨yX3_later, cX3_later, 4, some .int, 2, RX3, TX3, 52, M_X3_later, zrcv_vt, zcls2, (Nat.le_of_ble_eq_true rfl), q1521, q1522, q1523, q91, q1524, rfl, by decide, by decide, rfl⟩
theorem C_later {Z : ZK} {L : Fr} {h h1 h2 : Hp} {xs : Nat → Int32} {N i : Nat} {v : Int32} (hX : zx RX0 code 7 300 false Z) (hS : zsc Z N xs) (hN : N ≤ 320) (hL0 : L.2 0 = some 1000012) (hL1 : L.2 1 = some 0) (hL2 : L.2 2 = some 60) (hi : L.1 4 = Int32.ofNat i) (hiN : i + 5 ≤ N) (e1 : F_X1_later [.ref 0, .int (xs (i + 1)), .int (xs (i + 2))] h = some (.int v, h1)) (e2 : F_X3_later [.ref 60, .int (xs (i + 1)), .int (xs (i + 2))] h1 = some (.int v, h2)) (hcap : zcap Z h2) (kk : zw Z 7 2033 L [true, true, true, true, false] [] h2) : zw Z 7 1208 L [true, true, true, true, false] [] h := by
  have iS := zinvV (cc := code) (nL := 7) (d := 300) (ini := false) lk_X0_177 (Or.inl rfl) (Nat.le_of_ble_eq_true rfl) dL_law_1221
  have iM := zinvV (cc := code) (nL := 7) (d := 300) (ini := false) lk_X0_180 (Or.inl rfl) (Nat.le_of_ble_eq_true rfl) dL_law_1237
  have hc1 : zcap Z h1 := zcap_le (iM.1 _ _ _ _ e2) hcap
  refine zw_aload_n (i := 1) hX rfl rfl dL_law_1208 ?_
  rw [hL1]
  refine zw_arg (j := 1) hX hS hN hL0 hi (by omega) rfl rfl (by decide) dL_law_1209 dL_law_1210 dL_law_1212 dL_law_1213 dL_law_1214 (Nat.le_of_ble_eq_true rfl) ?_
  refine zw_arg (j := 2) hX hS hN hL0 hi (by omega) rfl rfl (by decide) dL_law_1215 dL_law_1216 dL_law_1218 dL_law_1219 dL_law_1220 (Nat.le_of_ble_eq_true rfl) ?_
  refine iS.2 Z hX L [true, true, true, true, false] [] h h1 [.ref 0, .int (xs (i + 1)), .int (xs (i + 2))] _ e1 rfl hc1 (Nat.zero_le _) ?_
  refine zw_aload_n (i := 2) hX rfl rfl dL_law_1224 ?_
  rw [hL2]
  refine zw_arg (j := 1) hX hS hN hL0 hi (by omega) rfl rfl (by decide) dL_law_1225 dL_law_1226 dL_law_1228 dL_law_1229 dL_law_1230 (Nat.le_of_ble_eq_true rfl) ?_
  refine zw_arg (j := 2) hX hS hN hL0 hi (by omega) rfl rfl (by decide) dL_law_1231 dL_law_1232 dL_law_1234 dL_law_1235 dL_law_1236 (Nat.le_of_ble_eq_true rfl) ?_
  refine iM.2 Z hX L [true, true, true, true, false] [.int v] h1 h2 [.ref 60, .int (xs (i + 1)), .int (xs (i + 2))] _ e2 rfl hcap (Nat.le_of_ble_eq_true rfl) ?_
  exact zjT_eq dL_law_1240 rfl Z hX L [true, true, true, true, false] [] h2 v v (fun _ => kk) (fun q => absurd q (by unfold zEQ; rw [decide_eq_true rfl]; decide))
theorem lk_X0_181 : zlkV RX0 181 2 0 123 F_X1_deepest := ⟨yX1_deepest, cX1_deepest, 6, some .int, 0, RX1, TX1, 52, M_X1_deepest, zrcv_vt, zcls0, (Nat.le_of_ble_eq_true rfl), q821, q822, q823, q89, q824, rfl, by decide, by decide, rfl⟩
theorem lk_X0_184 : zlkV RX0 184 2 0 124 F_X3_deepest := ⟨yX3_deepest, cX3_deepest, 6, some .int, 2, RX3, TX3, 52, M_X3_deepest, zrcv_vt, zcls2, (Nat.le_of_ble_eq_true rfl), q1525, q1526, q1527, q91, q1528, rfl, by decide, by decide, rfl⟩
theorem C_deepest {Z : ZK} {L : Fr} {h h1 h2 : Hp} {xs : Nat → Int32} {N i : Nat} {v : Int32} (hX : zx RX0 code 7 300 false Z) (hS : zsc Z N xs) (hN : N ≤ 320) (hL0 : L.2 0 = some 1000012) (hL1 : L.2 1 = some 0) (hL2 : L.2 2 = some 60) (hi : L.1 4 = Int32.ofNat i) (hiN : i + 5 ≤ N) (e1 : F_X1_deepest [.ref 0, .int (xs (i + 1)), .int (xs (i + 2))] h = some (.int v, h1)) (e2 : F_X3_deepest [.ref 60, .int (xs (i + 1)), .int (xs (i + 2))] h1 = some (.int v, h2)) (hcap : zcap Z h2) (kk : zw Z 7 2033 L [true, true, true, true, false] [] h2) : zw Z 7 1245 L [true, true, true, true, false] [] h := by
  have iS := zinvV (cc := code) (nL := 7) (d := 300) (ini := false) lk_X0_181 (Or.inl rfl) (Nat.le_of_ble_eq_true rfl) dL_law_1258
  have iM := zinvV (cc := code) (nL := 7) (d := 300) (ini := false) lk_X0_184 (Or.inl rfl) (Nat.le_of_ble_eq_true rfl) dL_law_1274
  have hc1 : zcap Z h1 := zcap_le (iM.1 _ _ _ _ e2) hcap
  refine zw_aload_n (i := 1) hX rfl rfl dL_law_1245 ?_
  rw [hL1]
  refine zw_arg (j := 1) hX hS hN hL0 hi (by omega) rfl rfl (by decide) dL_law_1246 dL_law_1247 dL_law_1249 dL_law_1250 dL_law_1251 (Nat.le_of_ble_eq_true rfl) ?_
  refine zw_arg (j := 2) hX hS hN hL0 hi (by omega) rfl rfl (by decide) dL_law_1252 dL_law_1253 dL_law_1255 dL_law_1256 dL_law_1257 (Nat.le_of_ble_eq_true rfl) ?_
  refine iS.2 Z hX L [true, true, true, true, false] [] h h1 [.ref 0, .int (xs (i + 1)), .int (xs (i + 2))] _ e1 rfl hc1 (Nat.zero_le _) ?_
  refine zw_aload_n (i := 2) hX rfl rfl dL_law_1261 ?_
  rw [hL2]
  refine zw_arg (j := 1) hX hS hN hL0 hi (by omega) rfl rfl (by decide) dL_law_1262 dL_law_1263 dL_law_1265 dL_law_1266 dL_law_1267 (Nat.le_of_ble_eq_true rfl) ?_
  refine zw_arg (j := 2) hX hS hN hL0 hi (by omega) rfl rfl (by decide) dL_law_1268 dL_law_1269 dL_law_1271 dL_law_1272 dL_law_1273 (Nat.le_of_ble_eq_true rfl) ?_
  refine iM.2 Z hX L [true, true, true, true, false] [.int v] h1 h2 [.ref 60, .int (xs (i + 1)), .int (xs (i + 2))] _ e2 rfl hcap (Nat.le_of_ble_eq_true rfl) ?_
  exact zjT_eq dL_law_1277 rfl Z hX L [true, true, true, true, false] [] h2 v v (fun _ => kk) (fun q => absurd q (by unfold zEQ; rw [decide_eq_true rfl]; decide))
theorem lk_X0_185 : zlkV RX0 185 1 0 124 F_X1_lord := ⟨yX1_lord, cX1_lord, 6, some .int, 0, RX1, TX1, 52, M_X1_lord, zrcv_vt, zcls0, (Nat.le_of_ble_eq_true rfl), q825, q826, q827, q89, q828, rfl, by decide, by decide, rfl⟩
theorem lk_X0_188 : zlkV RX0 188 1 0 125 F_X3_lord := ⟨yX3_lord, cX3_lord, 7, some .int, 2, RX3, TX3, 52, M_X3_lord, zrcv_vt, zcls2, (Nat.le_of_ble_eq_true rfl), q1529, q1530, q1531, q91, q1532, rfl, by decide, by decide, rfl⟩
theorem C_lord {Z : ZK} {L : Fr} {h h1 h2 : Hp} {xs : Nat → Int32} {N i : Nat} {v : Int32} (hX : zx RX0 code 7 300 false Z) (hS : zsc Z N xs) (hN : N ≤ 320) (hL0 : L.2 0 = some 1000012) (hL1 : L.2 1 = some 0) (hL2 : L.2 2 = some 60) (hi : L.1 4 = Int32.ofNat i) (hiN : i + 5 ≤ N) (e1 : F_X1_lord [.ref 0, .int (xs (i + 1))] h = some (.int v, h1)) (e2 : F_X3_lord [.ref 60, .int (xs (i + 1))] h1 = some (.int v, h2)) (hcap : zcap Z h2) (kk : zw Z 7 2033 L [true, true, true, true, false] [] h2) : zw Z 7 1282 L [true, true, true, true, false] [] h := by
  have iS := zinvV (cc := code) (nL := 7) (d := 300) (ini := false) lk_X0_185 (Or.inl rfl) (Nat.le_of_ble_eq_true rfl) dL_law_1289
  have iM := zinvV (cc := code) (nL := 7) (d := 300) (ini := false) lk_X0_188 (Or.inl rfl) (Nat.le_of_ble_eq_true rfl) dL_law_1299
  have hc1 : zcap Z h1 := zcap_le (iM.1 _ _ _ _ e2) hcap
  refine zw_aload_n (i := 1) hX rfl rfl dL_law_1282 ?_
  rw [hL1]
  refine zw_arg (j := 1) hX hS hN hL0 hi (by omega) rfl rfl (by decide) dL_law_1283 dL_law_1284 dL_law_1286 dL_law_1287 dL_law_1288 (Nat.le_of_ble_eq_true rfl) ?_
  refine iS.2 Z hX L [true, true, true, true, false] [] h h1 [.ref 0, .int (xs (i + 1))] _ e1 rfl hc1 (Nat.zero_le _) ?_
  refine zw_aload_n (i := 2) hX rfl rfl dL_law_1292 ?_
  rw [hL2]
  refine zw_arg (j := 1) hX hS hN hL0 hi (by omega) rfl rfl (by decide) dL_law_1293 dL_law_1294 dL_law_1296 dL_law_1297 dL_law_1298 (Nat.le_of_ble_eq_true rfl) ?_
  refine iM.2 Z hX L [true, true, true, true, false] [.int v] h1 h2 [.ref 60, .int (xs (i + 1))] _ e2 rfl hcap (Nat.le_of_ble_eq_true rfl) ?_
  exact zjT_eq dL_law_1302 rfl Z hX L [true, true, true, true, false] [] h2 v v (fun _ => kk) (fun q => absurd q (by unfold zEQ; rw [decide_eq_true rfl]; decide))
theorem lk_X0_189 : zlkV RX0 189 1 0 123 F_X1_worst := ⟨yX1_worst, cX1_worst, 7, some .int, 0, RX1, TX1, 52, M_X1_worst, zrcv_vt, zcls0, (Nat.le_of_ble_eq_true rfl), q829, q830, q831, q89, q832, rfl, by decide, by decide, rfl⟩
theorem lk_X0_192 : zlkV RX0 192 1 0 124 F_X3_worst := ⟨yX3_worst, cX3_worst, 5, some .int, 2, RX3, TX3, 52, M_X3_worst, zrcv_vt, zcls2, (Nat.le_of_ble_eq_true rfl), q1533, q1534, q1535, q91, q1536, rfl, by decide, by decide, rfl⟩
theorem C_worst {Z : ZK} {L : Fr} {h h1 h2 : Hp} {xs : Nat → Int32} {N i : Nat} {v : Int32} (hX : zx RX0 code 7 300 false Z) (hS : zsc Z N xs) (hN : N ≤ 320) (hL0 : L.2 0 = some 1000012) (hL1 : L.2 1 = some 0) (hL2 : L.2 2 = some 60) (hi : L.1 4 = Int32.ofNat i) (hiN : i + 5 ≤ N) (e1 : F_X1_worst [.ref 0, .int (xs (i + 1))] h = some (.int v, h1)) (e2 : F_X3_worst [.ref 60, .int (xs (i + 1))] h1 = some (.int v, h2)) (hcap : zcap Z h2) (kk : zw Z 7 2033 L [true, true, true, true, false] [] h2) : zw Z 7 1307 L [true, true, true, true, false] [] h := by
  have iS := zinvV (cc := code) (nL := 7) (d := 300) (ini := false) lk_X0_189 (Or.inl rfl) (Nat.le_of_ble_eq_true rfl) dL_law_1314
  have iM := zinvV (cc := code) (nL := 7) (d := 300) (ini := false) lk_X0_192 (Or.inl rfl) (Nat.le_of_ble_eq_true rfl) dL_law_1324
  have hc1 : zcap Z h1 := zcap_le (iM.1 _ _ _ _ e2) hcap
  refine zw_aload_n (i := 1) hX rfl rfl dL_law_1307 ?_
  rw [hL1]
  refine zw_arg (j := 1) hX hS hN hL0 hi (by omega) rfl rfl (by decide) dL_law_1308 dL_law_1309 dL_law_1311 dL_law_1312 dL_law_1313 (Nat.le_of_ble_eq_true rfl) ?_
  refine iS.2 Z hX L [true, true, true, true, false] [] h h1 [.ref 0, .int (xs (i + 1))] _ e1 rfl hc1 (Nat.zero_le _) ?_
  refine zw_aload_n (i := 2) hX rfl rfl dL_law_1317 ?_
  rw [hL2]
  refine zw_arg (j := 1) hX hS hN hL0 hi (by omega) rfl rfl (by decide) dL_law_1318 dL_law_1319 dL_law_1321 dL_law_1322 dL_law_1323 (Nat.le_of_ble_eq_true rfl) ?_
  refine iM.2 Z hX L [true, true, true, true, false] [.int v] h1 h2 [.ref 60, .int (xs (i + 1))] _ e2 rfl hcap (Nat.le_of_ble_eq_true rfl) ?_
  exact zjT_eq dL_law_1327 rfl Z hX L [true, true, true, true, false] [] h2 v v (fun _ => kk) (fun q => absurd q (by unfold zEQ; rw [decide_eq_true rfl]; decide))
theorem lk_X0_193 : zlkV RX0 193 0 0 123 F_X1_melt := ⟨yX1_melt, cX1_melt, 2, some .int, 0, RX1, TX1, 52, M_X1_melt, zrcv_vt, zcls0, (Nat.le_of_ble_eq_true rfl), q833, q834, q835, q89, q836, rfl, by decide, by decide, rfl⟩
theorem lk_X0_196 : zlkV RX0 196 0 0 124 F_X3_melt := ⟨yX3_melt, cX3_melt, 2, some .int, 2, RX3, TX3, 52, M_X3_melt, zrcv_vt, zcls2, (Nat.le_of_ble_eq_true rfl), q1537, q1538, q1539, q91, q1540, rfl, by decide, by decide, rfl⟩
theorem C_melt {Z : ZK} {L : Fr} {h h1 h2 : Hp} {xs : Nat → Int32} {N i : Nat} {v : Int32} (hX : zx RX0 code 7 300 false Z) (hS : zsc Z N xs) (hN : N ≤ 320) (hL0 : L.2 0 = some 1000012) (hL1 : L.2 1 = some 0) (hL2 : L.2 2 = some 60) (hi : L.1 4 = Int32.ofNat i) (hiN : i + 5 ≤ N) (e1 : F_X1_melt [.ref 0] h = some (.int v, h1)) (e2 : F_X3_melt [.ref 60] h1 = some (.int v, h2)) (hcap : zcap Z h2) (kk : zw Z 7 2033 L [true, true, true, true, false] [] h2) : zw Z 7 1332 L [true, true, true, true, false] [] h := by
  have iS := zinvV (cc := code) (nL := 7) (d := 300) (ini := false) lk_X0_193 (Or.inl rfl) (Nat.le_of_ble_eq_true rfl) dL_law_1333
  have iM := zinvV (cc := code) (nL := 7) (d := 300) (ini := false) lk_X0_196 (Or.inl rfl) (Nat.le_of_ble_eq_true rfl) dL_law_1337
  have hc1 : zcap Z h1 := zcap_le (iM.1 _ _ _ _ e2) hcap
  refine zw_aload_n (i := 1) hX rfl rfl dL_law_1332 ?_
  rw [hL1]
  refine iS.2 Z hX L [true, true, true, true, false] [] h h1 [.ref 0] _ e1 rfl hc1 (Nat.zero_le _) ?_
  refine zw_aload_n (i := 2) hX rfl rfl dL_law_1336 ?_
  rw [hL2]
  refine iM.2 Z hX L [true, true, true, true, false] [.int v] h1 h2 [.ref 60] _ e2 rfl hcap (Nat.le_of_ble_eq_true rfl) ?_
  exact zjT_eq dL_law_1340 rfl Z hX L [true, true, true, true, false] [] h2 v v (fun _ => kk) (fun q => absurd q (by unfold zEQ; rw [decide_eq_true rfl]; decide))
theorem lk_X0_197 : zlkV RX0 197 1 0 124 F_X1_lazy := ⟨yX1_lazy, cX1_lazy, 4, some .int, 0, RX1, TX1, 52, M_X1_lazy, zrcv_vt, zcls0, (Nat.le_of_ble_eq_true rfl), q841, q842, q843, q89, q844, rfl, by decide, by decide, rfl⟩
theorem lk_X0_200 : zlkV RX0 200 1 0 125 F_X3_lazy := ⟨yX3_lazy, cX3_lazy, 4, some .int, 2, RX3, TX3, 52, M_X3_lazy, zrcv_vt, zcls2, (Nat.le_of_ble_eq_true rfl), q1545, q1546, q1547, q91, q1548, rfl, by decide, by decide, rfl⟩
theorem C_lazy {Z : ZK} {L : Fr} {h h1 h2 : Hp} {xs : Nat → Int32} {N i : Nat} {v : Int32} (hX : zx RX0 code 7 300 false Z) (hS : zsc Z N xs) (hN : N ≤ 320) (hL0 : L.2 0 = some 1000012) (hL1 : L.2 1 = some 0) (hL2 : L.2 2 = some 60) (hi : L.1 4 = Int32.ofNat i) (hiN : i + 5 ≤ N) (e1 : F_X1_lazy [.ref 0, .int (xs (i + 1))] h = some (.int v, h1)) (e2 : F_X3_lazy [.ref 60, .int (xs (i + 1))] h1 = some (.int v, h2)) (hcap : zcap Z h2) (kk : zw Z 7 2033 L [true, true, true, true, false] [] h2) : zw Z 7 1345 L [true, true, true, true, false] [] h := by
  have iS := zinvV (cc := code) (nL := 7) (d := 300) (ini := false) lk_X0_197 (Or.inl rfl) (Nat.le_of_ble_eq_true rfl) dL_law_1352
  have iM := zinvV (cc := code) (nL := 7) (d := 300) (ini := false) lk_X0_200 (Or.inl rfl) (Nat.le_of_ble_eq_true rfl) dL_law_1362
  have hc1 : zcap Z h1 := zcap_le (iM.1 _ _ _ _ e2) hcap
  refine zw_aload_n (i := 1) hX rfl rfl dL_law_1345 ?_
  rw [hL1]
  refine zw_arg (j := 1) hX hS hN hL0 hi (by omega) rfl rfl (by decide) dL_law_1346 dL_law_1347 dL_law_1349 dL_law_1350 dL_law_1351 (Nat.le_of_ble_eq_true rfl) ?_
  refine iS.2 Z hX L [true, true, true, true, false] [] h h1 [.ref 0, .int (xs (i + 1))] _ e1 rfl hc1 (Nat.zero_le _) ?_
  refine zw_aload_n (i := 2) hX rfl rfl dL_law_1355 ?_
  rw [hL2]
  refine zw_arg (j := 1) hX hS hN hL0 hi (by omega) rfl rfl (by decide) dL_law_1356 dL_law_1357 dL_law_1359 dL_law_1360 dL_law_1361 (Nat.le_of_ble_eq_true rfl) ?_
  refine iM.2 Z hX L [true, true, true, true, false] [.int v] h1 h2 [.ref 60, .int (xs (i + 1))] _ e2 rfl hcap (Nat.le_of_ble_eq_true rfl) ?_
  exact zjT_eq dL_law_1365 rfl Z hX L [true, true, true, true, false] [] h2 v v (fun _ => kk) (fun q => absurd q (by unfold zEQ; rw [decide_eq_true rfl]; decide))
theorem lk_X0_201 : zlkV RX0 201 3 0 123 F_X1_dig := ⟨yX1_dig, cX1_dig, 7, some .int, 0, RX1, TX1, 52, M_X1_dig, zrcv_vt, zcls0, (Nat.le_of_ble_eq_true rfl), q845, q846, q847, q89, q848, rfl, by decide, by decide, rfl⟩
theorem lk_X0_204 : zlkV RX0 204 3 0 124 F_X3_dig := ⟨yX3_dig, cX3_dig, 7, some .int, 2, RX3, TX3, 52, M_X3_dig, zrcv_vt, zcls2, (Nat.le_of_ble_eq_true rfl), q1549, q1550, q1551, q91, q1552, rfl, by decide, by decide, rfl⟩
theorem C_dig {Z : ZK} {L : Fr} {h h1 h2 : Hp} {xs : Nat → Int32} {N i : Nat} {v : Int32} (hX : zx RX0 code 7 300 false Z) (hS : zsc Z N xs) (hN : N ≤ 320) (hL0 : L.2 0 = some 1000012) (hL1 : L.2 1 = some 0) (hL2 : L.2 2 = some 60) (hi : L.1 4 = Int32.ofNat i) (hiN : i + 5 ≤ N) (e1 : F_X1_dig [.ref 0, .int (xs (i + 1)), .int (xs (i + 2)), .int (xs (i + 3))] h = some (.int v, h1)) (e2 : F_X3_dig [.ref 60, .int (xs (i + 1)), .int (xs (i + 2)), .int (xs (i + 3))] h1 = some (.int v, h2)) (hcap : zcap Z h2) (kk : zw Z 7 2033 L [true, true, true, true, false] [] h2) : zw Z 7 1370 L [true, true, true, true, false] [] h := by
  have iS := zinvV (cc := code) (nL := 7) (d := 300) (ini := false) lk_X0_201 (Or.inl rfl) (Nat.le_of_ble_eq_true rfl) dL_law_1389
  have iM := zinvV (cc := code) (nL := 7) (d := 300) (ini := false) lk_X0_204 (Or.inl rfl) (Nat.le_of_ble_eq_true rfl) dL_law_1411
  have hc1 : zcap Z h1 := zcap_le (iM.1 _ _ _ _ e2) hcap
  refine zw_aload_n (i := 1) hX rfl rfl dL_law_1370 ?_
  rw [hL1]
  refine zw_arg (j := 1) hX hS hN hL0 hi (by omega) rfl rfl (by decide) dL_law_1371 dL_law_1372 dL_law_1374 dL_law_1375 dL_law_1376 (Nat.le_of_ble_eq_true rfl) ?_
  refine zw_arg (j := 2) hX hS hN hL0 hi (by omega) rfl rfl (by decide) dL_law_1377 dL_law_1378 dL_law_1380 dL_law_1381 dL_law_1382 (Nat.le_of_ble_eq_true rfl) ?_
  refine zw_arg (j := 3) hX hS hN hL0 hi (by omega) rfl rfl (by decide) dL_law_1383 dL_law_1384 dL_law_1386 dL_law_1387 dL_law_1388 (Nat.le_of_ble_eq_true rfl) ?_
  refine iS.2 Z hX L [true, true, true, true, false] [] h h1 [.ref 0, .int (xs (i + 1)), .int (xs (i + 2)), .int (xs (i + 3))] _ e1 rfl hc1 (Nat.zero_le _) ?_
  refine zw_aload_n (i := 2) hX rfl rfl dL_law_1392 ?_
  rw [hL2]
  refine zw_arg (j := 1) hX hS hN hL0 hi (by omega) rfl rfl (by decide) dL_law_1393 dL_law_1394 dL_law_1396 dL_law_1397 dL_law_1398 (Nat.le_of_ble_eq_true rfl) ?_
  refine zw_arg (j := 2) hX hS hN hL0 hi (by omega) rfl rfl (by decide) dL_law_1399 dL_law_1400 dL_law_1402 dL_law_1403 dL_law_1404 (Nat.le_of_ble_eq_true rfl) ?_
  refine zw_arg (j := 3) hX hS hN hL0 hi (by omega) rfl rfl (by decide) dL_law_1405 dL_law_1406 dL_law_1408 dL_law_1409 dL_law_1410 (Nat.le_of_ble_eq_true rfl) ?_
  refine iM.2 Z hX L [true, true, true, true, false] [.int v] h1 h2 [.ref 60, .int (xs (i + 1)), .int (xs (i + 2)), .int (xs (i + 3))] _ e2 rfl hcap (Nat.le_of_ble_eq_true rfl) ?_
  exact zjT_eq dL_law_1414 rfl Z hX L [true, true, true, true, false] [] h2 v v (fun _ => kk) (fun q => absurd q (by unfold zEQ; rw [decide_eq_true rfl]; decide))
theorem lk_X0_207 : zlkV RX0 207 2 0 125 F_X3_bare := ⟨yX3_bare, cX3_bare, 5, some .int, 2, RX3, TX3, 52, M_X3_bare, zrcv_vt, zcls2, (Nat.le_of_ble_eq_true rfl), q1553, q1554, q1555, q91, q1556, rfl, by decide, by decide, rfl⟩
theorem lk_X0_208 : zlkV RX0 208 2 0 157 F_X1_best := ⟨yX1_best, cX1_best, 3, some .int, 0, RX1, TX1, 52, M_X1_best, zrcv_vt, zcls0, (Nat.le_of_ble_eq_true rfl), q849, q850, q851, q89, q852, rfl, by decide, by decide, rfl⟩
theorem lk_X0_211 : zlkV RX0 211 2 0 126 F_X3_best := ⟨yX3_best, cX3_best, 3, some .int, 2, RX3, TX3, 52, M_X3_best, zrcv_vt, zcls2, (Nat.le_of_ble_eq_true rfl), q1557, q1558, q1559, q91, q1560, rfl, by decide, by decide, rfl⟩
theorem C_best {Z : ZK} {L : Fr} {h h1 h2 : Hp} {xs : Nat → Int32} {N i : Nat} {v : Int32} (hX : zx RX0 code 7 300 false Z) (hS : zsc Z N xs) (hN : N ≤ 320) (hL0 : L.2 0 = some 1000012) (hL1 : L.2 1 = some 0) (hL2 : L.2 2 = some 60) (hi : L.1 4 = Int32.ofNat i) (hiN : i + 5 ≤ N) (e1 : F_X1_best [.ref 0, .int (xs (i + 1)), .int (xs (i + 2))] h = some (.int v, h1)) (e2 : F_X3_best [.ref 60, .int (xs (i + 1)), .int (xs (i + 2))] h1 = some (.int v, h2)) (hcap : zcap Z h2) (kk : zw Z 7 2033 L [true, true, true, true, false] [] h2) : zw Z 7 1487 L [true, true, true, true, false] [] h := by
  have iS := zinvV (cc := code) (nL := 7) (d := 300) (ini := false) lk_X0_208 (Or.inl rfl) (Nat.le_of_ble_eq_true rfl) dL_law_1500
  have iM := zinvV (cc := code) (nL := 7) (d := 300) (ini := false) lk_X0_211 (Or.inl rfl) (Nat.le_of_ble_eq_true rfl) dL_law_1516
  have hc1 : zcap Z h1 := zcap_le (iM.1 _ _ _ _ e2) hcap
  refine zw_aload_n (i := 1) hX rfl rfl dL_law_1487 ?_
  rw [hL1]
  refine zw_arg (j := 1) hX hS hN hL0 hi (by omega) rfl rfl (by decide) dL_law_1488 dL_law_1489 dL_law_1491 dL_law_1492 dL_law_1493 (Nat.le_of_ble_eq_true rfl) ?_
  refine zw_arg (j := 2) hX hS hN hL0 hi (by omega) rfl rfl (by decide) dL_law_1494 dL_law_1495 dL_law_1497 dL_law_1498 dL_law_1499 (Nat.le_of_ble_eq_true rfl) ?_
  refine iS.2 Z hX L [true, true, true, true, false] [] h h1 [.ref 0, .int (xs (i + 1)), .int (xs (i + 2))] _ e1 rfl hc1 (Nat.zero_le _) ?_
  refine zw_aload_n (i := 2) hX rfl rfl dL_law_1503 ?_
  rw [hL2]
  refine zw_arg (j := 1) hX hS hN hL0 hi (by omega) rfl rfl (by decide) dL_law_1504 dL_law_1505 dL_law_1507 dL_law_1508 dL_law_1509 (Nat.le_of_ble_eq_true rfl) ?_
  refine zw_arg (j := 2) hX hS hN hL0 hi (by omega) rfl rfl (by decide) dL_law_1510 dL_law_1511 dL_law_1513 dL_law_1514 dL_law_1515 (Nat.le_of_ble_eq_true rfl) ?_
  refine iM.2 Z hX L [true, true, true, true, false] [.int v] h1 h2 [.ref 60, .int (xs (i + 1)), .int (xs (i + 2))] _ e2 rfl hcap (Nat.le_of_ble_eq_true rfl) ?_
  exact zjT_eq dL_law_1519 rfl Z hX L [true, true, true, true, false] [] h2 v v (fun _ => kk) (fun q => absurd q (by unfold zEQ; rw [decide_eq_true rfl]; decide))
theorem lk_X0_212 : zlkV RX0 212 3 0 157 F_X1_own := ⟨yX1_own, cX1_own, 4, some .int, 0, RX1, TX1, 52, M_X1_own, zrcv_vt, zcls0, (Nat.le_of_ble_eq_true rfl), q861, q862, q863, q89, q864, rfl, by decide, by decide, rfl⟩
theorem lk_X0_215 : zlkV RX0 215 3 0 126 F_X3_own := ⟨yX3_own, cX3_own, 4, some .int, 2, RX3, TX3, 52, M_X3_own, zrcv_vt, zcls2, (Nat.le_of_ble_eq_true rfl), q1569, q1570, q1571, q91, q1572, rfl, by decide, by decide, rfl⟩
theorem C_own {Z : ZK} {L : Fr} {h h1 h2 : Hp} {xs : Nat → Int32} {N i : Nat} {v : Int32} (hX : zx RX0 code 7 300 false Z) (hS : zsc Z N xs) (hN : N ≤ 320) (hL0 : L.2 0 = some 1000012) (hL1 : L.2 1 = some 0) (hL2 : L.2 2 = some 60) (hi : L.1 4 = Int32.ofNat i) (hiN : i + 5 ≤ N) (e1 : F_X1_own [.ref 0, .int (xs (i + 1)), .int (xs (i + 2)), .int (xs (i + 3))] h = some (.int v, h1)) (e2 : F_X3_own [.ref 60, .int (xs (i + 1)), .int (xs (i + 2)), .int (xs (i + 3))] h1 = some (.int v, h2)) (hcap : zcap Z h2) (kk : zw Z 7 2033 L [true, true, true, true, false] [] h2) : zw Z 7 1524 L [true, true, true, true, false] [] h := by
  have iS := zinvV (cc := code) (nL := 7) (d := 300) (ini := false) lk_X0_212 (Or.inl rfl) (Nat.le_of_ble_eq_true rfl) dL_law_1543
  have iM := zinvV (cc := code) (nL := 7) (d := 300) (ini := false) lk_X0_215 (Or.inl rfl) (Nat.le_of_ble_eq_true rfl) dL_law_1565
  have hc1 : zcap Z h1 := zcap_le (iM.1 _ _ _ _ e2) hcap
  refine zw_aload_n (i := 1) hX rfl rfl dL_law_1524 ?_
  rw [hL1]
  refine zw_arg (j := 1) hX hS hN hL0 hi (by omega) rfl rfl (by decide) dL_law_1525 dL_law_1526 dL_law_1528 dL_law_1529 dL_law_1530 (Nat.le_of_ble_eq_true rfl) ?_
  refine zw_arg (j := 2) hX hS hN hL0 hi (by omega) rfl rfl (by decide) dL_law_1531 dL_law_1532 dL_law_1534 dL_law_1535 dL_law_1536 (Nat.le_of_ble_eq_true rfl) ?_
  refine zw_arg (j := 3) hX hS hN hL0 hi (by omega) rfl rfl (by decide) dL_law_1537 dL_law_1538 dL_law_1540 dL_law_1541 dL_law_1542 (Nat.le_of_ble_eq_true rfl) ?_
  refine iS.2 Z hX L [true, true, true, true, false] [] h h1 [.ref 0, .int (xs (i + 1)), .int (xs (i + 2)), .int (xs (i + 3))] _ e1 rfl hc1 (Nat.zero_le _) ?_
  refine zw_aload_n (i := 2) hX rfl rfl dL_law_1546 ?_
  rw [hL2]
  refine zw_arg (j := 1) hX hS hN hL0 hi (by omega) rfl rfl (by decide) dL_law_1547 dL_law_1548 dL_law_1550 dL_law_1551 dL_law_1552 (Nat.le_of_ble_eq_true rfl) ?_
  refine zw_arg (j := 2) hX hS hN hL0 hi (by omega) rfl rfl (by decide) dL_law_1553 dL_law_1554 dL_law_1556 dL_law_1557 dL_law_1558 (Nat.le_of_ble_eq_true rfl) ?_
  refine zw_arg (j := 3) hX hS hN hL0 hi (by omega) rfl rfl (by decide) dL_law_1559 dL_law_1560 dL_law_1562 dL_law_1563 dL_law_1564 (Nat.le_of_ble_eq_true rfl) ?_
  refine iM.2 Z hX L [true, true, true, true, false] [.int v] h1 h2 [.ref 60, .int (xs (i + 1)), .int (xs (i + 2)), .int (xs (i + 3))] _ e2 rfl hcap (Nat.le_of_ble_eq_true rfl) ?_
  exact zjT_eq dL_law_1568 rfl Z hX L [true, true, true, true, false] [] h2 v v (fun _ => kk) (fun q => absurd q (by unfold zEQ; rw [decide_eq_true rfl]; decide))
theorem lk_X0_216 : zlkV RX0 216 2 0 125 F_X1_better := ⟨yX1_better, cX1_better, 4, some .int, 0, RX1, TX1, 52, M_X1_better, zrcv_vt, zcls0, (Nat.le_of_ble_eq_true rfl), q865, q866, q867, q89, q868, rfl, by decide, by decide, rfl⟩
theorem lk_X0_219 : zlkV RX0 219 2 0 125 F_X3_better := ⟨yX3_better, cX3_better, 3, some .int, 2, RX3, TX3, 52, M_X3_better, zrcv_vt, zcls2, (Nat.le_of_ble_eq_true rfl), q1573, q1574, q1575, q91, q1576, rfl, by decide, by decide, rfl⟩
theorem C_better {Z : ZK} {L : Fr} {h h1 h2 : Hp} {xs : Nat → Int32} {N i : Nat} {v : Int32} (hX : zx RX0 code 7 300 false Z) (hS : zsc Z N xs) (hN : N ≤ 320) (hL0 : L.2 0 = some 1000012) (hL1 : L.2 1 = some 0) (hL2 : L.2 2 = some 60) (hi : L.1 4 = Int32.ofNat i) (hiN : i + 5 ≤ N) (e1 : F_X1_better [.ref 0, .int (xs (i + 1)), .int (xs (i + 2))] h = some (.int v, h1)) (e2 : F_X3_better [.ref 60, .int (xs (i + 1)), .int (xs (i + 2))] h1 = some (.int v, h2)) (hcap : zcap Z h2) (kk : zw Z 7 2033 L [true, true, true, true, false] [] h2) : zw Z 7 1573 L [true, true, true, true, false] [] h := by
  have iS := zinvV (cc := code) (nL := 7) (d := 300) (ini := false) lk_X0_216 (Or.inl rfl) (Nat.le_of_ble_eq_true rfl) dL_law_1586
  have iM := zinvV (cc := code) (nL := 7) (d := 300) (ini := false) lk_X0_219 (Or.inl rfl) (Nat.le_of_ble_eq_true rfl) dL_law_1602
  have hc1 : zcap Z h1 := zcap_le (iM.1 _ _ _ _ e2) hcap
  refine zw_aload_n (i := 1) hX rfl rfl dL_law_1573 ?_
  rw [hL1]
  refine zw_arg (j := 1) hX hS hN hL0 hi (by omega) rfl rfl (by decide) dL_law_1574 dL_law_1575 dL_law_1577 dL_law_1578 dL_law_1579 (Nat.le_of_ble_eq_true rfl) ?_
  refine zw_arg (j := 2) hX hS hN hL0 hi (by omega) rfl rfl (by decide) dL_law_1580 dL_law_1581 dL_law_1583 dL_law_1584 dL_law_1585 (Nat.le_of_ble_eq_true rfl) ?_
  refine iS.2 Z hX L [true, true, true, true, false] [] h h1 [.ref 0, .int (xs (i + 1)), .int (xs (i + 2))] _ e1 rfl hc1 (Nat.zero_le _) ?_
  refine zw_aload_n (i := 2) hX rfl rfl dL_law_1589 ?_
  rw [hL2]
  refine zw_arg (j := 1) hX hS hN hL0 hi (by omega) rfl rfl (by decide) dL_law_1590 dL_law_1591 dL_law_1593 dL_law_1594 dL_law_1595 (Nat.le_of_ble_eq_true rfl) ?_
  refine zw_arg (j := 2) hX hS hN hL0 hi (by omega) rfl rfl (by decide) dL_law_1596 dL_law_1597 dL_law_1599 dL_law_1600 dL_law_1601 (Nat.le_of_ble_eq_true rfl) ?_
  refine iM.2 Z hX L [true, true, true, true, false] [.int v] h1 h2 [.ref 60, .int (xs (i + 1)), .int (xs (i + 2))] _ e2 rfl hcap (Nat.le_of_ble_eq_true rfl) ?_
  exact zjT_eq dL_law_1605 rfl Z hX L [true, true, true, true, false] [] h2 v v (fun _ => kk) (fun q => absurd q (by unfold zEQ; rw [decide_eq_true rfl]; decide))
theorem lk_X0_220 : zlkV RX0 220 2 0 125 F_X1_rests := ⟨yX1_rests, cX1_rests, 7, some .int, 0, RX1, TX1, 52, M_X1_rests, zrcv_vt, zcls0, (Nat.le_of_ble_eq_true rfl), q873, q874, q875, q89, q876, rfl, by decide, by decide, rfl⟩
theorem lk_X0_223 : zlkV RX0 223 2 0 125 F_X3_rests := ⟨yX3_rests, cX3_rests, 7, some .int, 2, RX3, TX3, 52, M_X3_rests, zrcv_vt, zcls2, (Nat.le_of_ble_eq_true rfl), q1581, q1582, q1583, q91, q1584, rfl, by decide, by decide, rfl⟩
theorem C_rests {Z : ZK} {L : Fr} {h h1 h2 : Hp} {xs : Nat → Int32} {N i : Nat} {v : Int32} (hX : zx RX0 code 7 300 false Z) (hS : zsc Z N xs) (hN : N ≤ 320) (hL0 : L.2 0 = some 1000012) (hL1 : L.2 1 = some 0) (hL2 : L.2 2 = some 60) (hi : L.1 4 = Int32.ofNat i) (hiN : i + 5 ≤ N) (e1 : F_X1_rests [.ref 0, .int (xs (i + 1)), .int (xs (i + 2))] h = some (.int v, h1)) (e2 : F_X3_rests [.ref 60, .int (xs (i + 1)), .int (xs (i + 2))] h1 = some (.int v, h2)) (hcap : zcap Z h2) (kk : zw Z 7 2033 L [true, true, true, true, false] [] h2) : zw Z 7 1610 L [true, true, true, true, false] [] h := by
  have iS := zinvV (cc := code) (nL := 7) (d := 300) (ini := false) lk_X0_220 (Or.inl rfl) (Nat.le_of_ble_eq_true rfl) dL_law_1623
  have iM := zinvV (cc := code) (nL := 7) (d := 300) (ini := false) lk_X0_223 (Or.inl rfl) (Nat.le_of_ble_eq_true rfl) dL_law_1639
  have hc1 : zcap Z h1 := zcap_le (iM.1 _ _ _ _ e2) hcap
  refine zw_aload_n (i := 1) hX rfl rfl dL_law_1610 ?_
  rw [hL1]
  refine zw_arg (j := 1) hX hS hN hL0 hi (by omega) rfl rfl (by decide) dL_law_1611 dL_law_1612 dL_law_1614 dL_law_1615 dL_law_1616 (Nat.le_of_ble_eq_true rfl) ?_
  refine zw_arg (j := 2) hX hS hN hL0 hi (by omega) rfl rfl (by decide) dL_law_1617 dL_law_1618 dL_law_1620 dL_law_1621 dL_law_1622 (Nat.le_of_ble_eq_true rfl) ?_
  refine iS.2 Z hX L [true, true, true, true, false] [] h h1 [.ref 0, .int (xs (i + 1)), .int (xs (i + 2))] _ e1 rfl hc1 (Nat.zero_le _) ?_
  refine zw_aload_n (i := 2) hX rfl rfl dL_law_1626 ?_
  rw [hL2]
  refine zw_arg (j := 1) hX hS hN hL0 hi (by omega) rfl rfl (by decide) dL_law_1627 dL_law_1628 dL_law_1630 dL_law_1631 dL_law_1632 (Nat.le_of_ble_eq_true rfl) ?_
  refine zw_arg (j := 2) hX hS hN hL0 hi (by omega) rfl rfl (by decide) dL_law_1633 dL_law_1634 dL_law_1636 dL_law_1637 dL_law_1638 (Nat.le_of_ble_eq_true rfl) ?_
  refine iM.2 Z hX L [true, true, true, true, false] [.int v] h1 h2 [.ref 60, .int (xs (i + 1)), .int (xs (i + 2))] _ e2 rfl hcap (Nat.le_of_ble_eq_true rfl) ?_
  exact zjT_eq dL_law_1642 rfl Z hX L [true, true, true, true, false] [] h2 v v (fun _ => kk) (fun q => absurd q (by unfold zEQ; rw [decide_eq_true rfl]; decide))
theorem lk_X0_224 : zlkV RX0 224 2 0 125 F_X1_rough := ⟨yX1_rough, cX1_rough, 8, some .int, 0, RX1, TX1, 52, M_X1_rough, zrcv_vt, zcls0, (Nat.le_of_ble_eq_true rfl), q878, q879, q880, q89, q881, rfl, by decide, by decide, rfl⟩
theorem lk_X0_227 : zlkV RX0 227 2 0 126 F_X3_rough := ⟨yX3_rough, cX3_rough, 8, some .int, 2, RX3, TX3, 52, M_X3_rough, zrcv_vt, zcls2, (Nat.le_of_ble_eq_true rfl), q1585, q1586, q1587, q91, q1588, rfl, by decide, by decide, rfl⟩
theorem C_rough {Z : ZK} {L : Fr} {h h1 h2 : Hp} {xs : Nat → Int32} {N i : Nat} {v : Int32} (hX : zx RX0 code 7 300 false Z) (hS : zsc Z N xs) (hN : N ≤ 320) (hL0 : L.2 0 = some 1000012) (hL1 : L.2 1 = some 0) (hL2 : L.2 2 = some 60) (hi : L.1 4 = Int32.ofNat i) (hiN : i + 5 ≤ N) (e1 : F_X1_rough [.ref 0, .int (xs (i + 1)), .int (xs (i + 2))] h = some (.int v, h1)) (e2 : F_X3_rough [.ref 60, .int (xs (i + 1)), .int (xs (i + 2))] h1 = some (.int v, h2)) (hcap : zcap Z h2) (kk : zw Z 7 2033 L [true, true, true, true, false] [] h2) : zw Z 7 1647 L [true, true, true, true, false] [] h := by
  have iS := zinvV (cc := code) (nL := 7) (d := 300) (ini := false) lk_X0_224 (Or.inl rfl) (Nat.le_of_ble_eq_true rfl) dL_law_1660
  have iM := zinvV (cc := code) (nL := 7) (d := 300) (ini := false) lk_X0_227 (Or.inl rfl) (Nat.le_of_ble_eq_true rfl) dL_law_1676
  have hc1 : zcap Z h1 := zcap_le (iM.1 _ _ _ _ e2) hcap
  refine zw_aload_n (i := 1) hX rfl rfl dL_law_1647 ?_
  rw [hL1]
  refine zw_arg (j := 1) hX hS hN hL0 hi (by omega) rfl rfl (by decide) dL_law_1648 dL_law_1649 dL_law_1651 dL_law_1652 dL_law_1653 (Nat.le_of_ble_eq_true rfl) ?_
  refine zw_arg (j := 2) hX hS hN hL0 hi (by omega) rfl rfl (by decide) dL_law_1654 dL_law_1655 dL_law_1657 dL_law_1658 dL_law_1659 (Nat.le_of_ble_eq_true rfl) ?_
  refine iS.2 Z hX L [true, true, true, true, false] [] h h1 [.ref 0, .int (xs (i + 1)), .int (xs (i + 2))] _ e1 rfl hc1 (Nat.zero_le _) ?_
  refine zw_aload_n (i := 2) hX rfl rfl dL_law_1663 ?_
  rw [hL2]
  refine zw_arg (j := 1) hX hS hN hL0 hi (by omega) rfl rfl (by decide) dL_law_1664 dL_law_1665 dL_law_1667 dL_law_1668 dL_law_1669 (Nat.le_of_ble_eq_true rfl) ?_
  refine zw_arg (j := 2) hX hS hN hL0 hi (by omega) rfl rfl (by decide) dL_law_1670 dL_law_1671 dL_law_1673 dL_law_1674 dL_law_1675 (Nat.le_of_ble_eq_true rfl) ?_
  refine iM.2 Z hX L [true, true, true, true, false] [.int v] h1 h2 [.ref 60, .int (xs (i + 1)), .int (xs (i + 2))] _ e2 rfl hcap (Nat.le_of_ble_eq_true rfl) ?_
  exact zjT_eq dL_law_1679 rfl Z hX L [true, true, true, true, false] [] h2 v v (fun _ => kk) (fun q => absurd q (by unfold zEQ; rw [decide_eq_true rfl]; decide))
theorem lk_X0_228 : zlkV RX0 228 1 0 125 F_X1_turned := ⟨yX1_turned, cX1_turned, 6, some .int, 0, RX1, TX1, 52, M_X1_turned, zrcv_vt, zcls0, (Nat.le_of_ble_eq_true rfl), q886, q887, q888, q89, q889, rfl, by decide, by decide, rfl⟩
theorem lk_X0_231 : zlkV RX0 231 1 0 126 F_X3_turned := ⟨yX3_turned, cX3_turned, 6, some .int, 2, RX3, TX3, 52, M_X3_turned, zrcv_vt, zcls2, (Nat.le_of_ble_eq_true rfl), q1593, q1594, q1595, q91, q1596, rfl, by decide, by decide, rfl⟩
theorem C_turned {Z : ZK} {L : Fr} {h h1 h2 : Hp} {xs : Nat → Int32} {N i : Nat} {v : Int32} (hX : zx RX0 code 7 300 false Z) (hS : zsc Z N xs) (hN : N ≤ 320) (hL0 : L.2 0 = some 1000012) (hL1 : L.2 1 = some 0) (hL2 : L.2 2 = some 60) (hi : L.1 4 = Int32.ofNat i) (hiN : i + 5 ≤ N) (e1 : F_X1_turned [.ref 0, .int (xs (i + 1))] h = some (.int v, h1)) (e2 : F_X3_turned [.ref 60, .int (xs (i + 1))] h1 = some (.int v, h2)) (hcap : zcap Z h2) (kk : zw Z 7 2033 L [true, true, true, true, false] [] h2) : zw Z 7 1684 L [true, true, true, true, false] [] h := by
  have iS := zinvV (cc := code) (nL := 7) (d := 300) (ini := false) lk_X0_228 (Or.inl rfl) (Nat.le_of_ble_eq_true rfl) dL_law_1691
  have iM := zinvV (cc := code) (nL := 7) (d := 300) (ini := false) lk_X0_231 (Or.inl rfl) (Nat.le_of_ble_eq_true rfl) dL_law_1701
  have hc1 : zcap Z h1 := zcap_le (iM.1 _ _ _ _ e2) hcap
  refine zw_aload_n (i := 1) hX rfl rfl dL_law_1684 ?_
  rw [hL1]
  refine zw_arg (j := 1) hX hS hN hL0 hi (by omega) rfl rfl (by decide) dL_law_1685 dL_law_1686 dL_law_1688 dL_law_1689 dL_law_1690 (Nat.le_of_ble_eq_true rfl) ?_
  refine iS.2 Z hX L [true, true, true, true, false] [] h h1 [.ref 0, .int (xs (i + 1))] _ e1 rfl hc1 (Nat.zero_le _) ?_
  refine zw_aload_n (i := 2) hX rfl rfl dL_law_1694 ?_
  rw [hL2]
  refine zw_arg (j := 1) hX hS hN hL0 hi (by omega) rfl rfl (by decide) dL_law_1695 dL_law_1696 dL_law_1698 dL_law_1699 dL_law_1700 (Nat.le_of_ble_eq_true rfl) ?_
  refine iM.2 Z hX L [true, true, true, true, false] [.int v] h1 h2 [.ref 60, .int (xs (i + 1))] _ e2 rfl hcap (Nat.le_of_ble_eq_true rfl) ?_
  exact zjT_eq dL_law_1704 rfl Z hX L [true, true, true, true, false] [] h2 v v (fun _ => kk) (fun q => absurd q (by unfold zEQ; rw [decide_eq_true rfl]; decide))
theorem lk_X0_232 : zlkV RX0 232 2 0 125 F_X1_needs := ⟨yX1_needs, cX1_needs, 6, some .int, 0, RX1, TX1, 52, M_X1_needs, zrcv_vt, zcls0, (Nat.le_of_ble_eq_true rfl), q894, q895, q896, q89, q897, rfl, by decide, by decide, rfl⟩
theorem lk_X0_235 : zlkV RX0 235 2 0 125 F_X3_needs := ⟨yX3_needs, cX3_needs, 6, some .int, 2, RX3, TX3, 52, M_X3_needs, zrcv_vt, zcls2, (Nat.le_of_ble_eq_true rfl), q1601, q1602, q1603, q91, q1604, rfl, by decide, by decide, rfl⟩
theorem C_needs {Z : ZK} {L : Fr} {h h1 h2 : Hp} {xs : Nat → Int32} {N i : Nat} {v : Int32} (hX : zx RX0 code 7 300 false Z) (hS : zsc Z N xs) (hN : N ≤ 320) (hL0 : L.2 0 = some 1000012) (hL1 : L.2 1 = some 0) (hL2 : L.2 2 = some 60) (hi : L.1 4 = Int32.ofNat i) (hiN : i + 5 ≤ N) (e1 : F_X1_needs [.ref 0, .int (xs (i + 1)), .int (xs (i + 2))] h = some (.int v, h1)) (e2 : F_X3_needs [.ref 60, .int (xs (i + 1)), .int (xs (i + 2))] h1 = some (.int v, h2)) (hcap : zcap Z h2) (kk : zw Z 7 2033 L [true, true, true, true, false] [] h2) : zw Z 7 1709 L [true, true, true, true, false] [] h := by
  have iS := zinvV (cc := code) (nL := 7) (d := 300) (ini := false) lk_X0_232 (Or.inl rfl) (Nat.le_of_ble_eq_true rfl) dL_law_1722
  have iM := zinvV (cc := code) (nL := 7) (d := 300) (ini := false) lk_X0_235 (Or.inl rfl) (Nat.le_of_ble_eq_true rfl) dL_law_1738
  have hc1 : zcap Z h1 := zcap_le (iM.1 _ _ _ _ e2) hcap
  refine zw_aload_n (i := 1) hX rfl rfl dL_law_1709 ?_
  rw [hL1]
  refine zw_arg (j := 1) hX hS hN hL0 hi (by omega) rfl rfl (by decide) dL_law_1710 dL_law_1711 dL_law_1713 dL_law_1714 dL_law_1715 (Nat.le_of_ble_eq_true rfl) ?_
  refine zw_arg (j := 2) hX hS hN hL0 hi (by omega) rfl rfl (by decide) dL_law_1716 dL_law_1717 dL_law_1719 dL_law_1720 dL_law_1721 (Nat.le_of_ble_eq_true rfl) ?_
  refine iS.2 Z hX L [true, true, true, true, false] [] h h1 [.ref 0, .int (xs (i + 1)), .int (xs (i + 2))] _ e1 rfl hc1 (Nat.zero_le _) ?_
  refine zw_aload_n (i := 2) hX rfl rfl dL_law_1725 ?_
  rw [hL2]
  refine zw_arg (j := 1) hX hS hN hL0 hi (by omega) rfl rfl (by decide) dL_law_1726 dL_law_1727 dL_law_1729 dL_law_1730 dL_law_1731 (Nat.le_of_ble_eq_true rfl) ?_
  refine zw_arg (j := 2) hX hS hN hL0 hi (by omega) rfl rfl (by decide) dL_law_1732 dL_law_1733 dL_law_1735 dL_law_1736 dL_law_1737 (Nat.le_of_ble_eq_true rfl) ?_
  refine iM.2 Z hX L [true, true, true, true, false] [.int v] h1 h2 [.ref 60, .int (xs (i + 1)), .int (xs (i + 2))] _ e2 rfl hcap (Nat.le_of_ble_eq_true rfl) ?_
  exact zjT_eq dL_law_1741 rfl Z hX L [true, true, true, true, false] [] h2 v v (fun _ => kk) (fun q => absurd q (by unfold zEQ; rw [decide_eq_true rfl]; decide))
theorem lk_X0_238 : zlkV RX0 238 1 0 125 F_X3_premium := ⟨yX3_premium, cX3_premium, 4, some .int, 2, RX3, TX3, 52, M_X3_premium, zrcv_vt, zcls2, (Nat.le_of_ble_eq_true rfl), q1605, q1606, q1607, q91, q1608, rfl, by decide, by decide, rfl⟩
theorem lk_X0_239 : zlkV RX0 239 2 0 2 F_X1_track := ⟨yX1_track, cX1_track, 3, some .int, 0, RX1, TX1, 52, M_X1_track, zrcv_vt, zcls0, (Nat.le_of_ble_eq_true rfl), q898, q899, q900, q89, q901, rfl, by decide, by decide, rfl⟩
theorem lk_X0_242 : zlkV RX0 242 2 0 2 F_X3_track := ⟨yX3_track, cX3_track, 3, some .int, 2, RX3, TX3, 52, M_X3_track, zrcv_vt, zcls2, (Nat.le_of_ble_eq_true rfl), q1609, q1610, q1611, q91, q1612, rfl, by decide, by decide, rfl⟩
theorem C_track {Z : ZK} {L : Fr} {h h1 h2 : Hp} {xs : Nat → Int32} {N i : Nat} {v : Int32} (hX : zx RX0 code 7 300 false Z) (hS : zsc Z N xs) (hN : N ≤ 320) (hL0 : L.2 0 = some 1000012) (hL1 : L.2 1 = some 0) (hL2 : L.2 2 = some 60) (hi : L.1 4 = Int32.ofNat i) (hiN : i + 5 ≤ N) (e1 : F_X1_track [.ref 0, .int (xs (i + 1)), .int (xs (i + 2))] h = some (.int v, h1)) (e2 : F_X3_track [.ref 60, .int (xs (i + 1)), .int (xs (i + 2))] h1 = some (.int v, h2)) (hcap : zcap Z h2) (kk : zw Z 7 2033 L [true, true, true, true, false] [] h2) : zw Z 7 1802 L [true, true, true, true, false] [] h := by
  have iS := zinvV (cc := code) (nL := 7) (d := 300) (ini := false) lk_X0_239 (Or.inl rfl) (Nat.le_of_ble_eq_true rfl) dL_law_1815
  have iM := zinvV (cc := code) (nL := 7) (d := 300) (ini := false) lk_X0_242 (Or.inl rfl) (Nat.le_of_ble_eq_true rfl) dL_law_1831
  have hc1 : zcap Z h1 := zcap_le (iM.1 _ _ _ _ e2) hcap
  refine zw_aload_n (i := 1) hX rfl rfl dL_law_1802 ?_
  rw [hL1]
  refine zw_arg (j := 1) hX hS hN hL0 hi (by omega) rfl rfl (by decide) dL_law_1803 dL_law_1804 dL_law_1806 dL_law_1807 dL_law_1808 (Nat.le_of_ble_eq_true rfl) ?_
  refine zw_arg (j := 2) hX hS hN hL0 hi (by omega) rfl rfl (by decide) dL_law_1809 dL_law_1810 dL_law_1812 dL_law_1813 dL_law_1814 (Nat.le_of_ble_eq_true rfl) ?_
  refine iS.2 Z hX L [true, true, true, true, false] [] h h1 [.ref 0, .int (xs (i + 1)), .int (xs (i + 2))] _ e1 rfl hc1 (Nat.zero_le _) ?_
  refine zw_aload_n (i := 2) hX rfl rfl dL_law_1818 ?_
  rw [hL2]
  refine zw_arg (j := 1) hX hS hN hL0 hi (by omega) rfl rfl (by decide) dL_law_1819 dL_law_1820 dL_law_1822 dL_law_1823 dL_law_1824 (Nat.le_of_ble_eq_true rfl) ?_
  refine zw_arg (j := 2) hX hS hN hL0 hi (by omega) rfl rfl (by decide) dL_law_1825 dL_law_1826 dL_law_1828 dL_law_1829 dL_law_1830 (Nat.le_of_ble_eq_true rfl) ?_
  refine iM.2 Z hX L [true, true, true, true, false] [.int v] h1 h2 [.ref 60, .int (xs (i + 1)), .int (xs (i + 2))] _ e2 rfl hcap (Nat.le_of_ble_eq_true rfl) ?_
  exact zjT_eq dL_law_1834 rfl Z hX L [true, true, true, true, false] [] h2 v v (fun _ => kk) (fun q => absurd q (by unfold zEQ; rw [decide_eq_true rfl]; decide))
theorem lk_X0_243 : zlkV RX0 243 0 0 0 F_X1_thaw := ⟨yX1_thaw, cX1_thaw, 2, some .int, 0, RX1, TX1, 52, M_X1_thaw, zrcv_vt, zcls0, (Nat.le_of_ble_eq_true rfl), q902, q903, q904, q89, q905, rfl, by decide, by decide, rfl⟩
theorem lk_X0_246 : zlkV RX0 246 0 0 0 F_X3_thaw := ⟨yX3_thaw, cX3_thaw, 2, some .int, 2, RX3, TX3, 52, M_X3_thaw, zrcv_vt, zcls2, (Nat.le_of_ble_eq_true rfl), q1613, q1614, q1615, q91, q1616, rfl, by decide, by decide, rfl⟩
theorem C_thaw {Z : ZK} {L : Fr} {h h1 h2 : Hp} {xs : Nat → Int32} {N i : Nat} {v : Int32} (hX : zx RX0 code 7 300 false Z) (hS : zsc Z N xs) (hN : N ≤ 320) (hL0 : L.2 0 = some 1000012) (hL1 : L.2 1 = some 0) (hL2 : L.2 2 = some 60) (hi : L.1 4 = Int32.ofNat i) (hiN : i + 5 ≤ N) (e1 : F_X1_thaw [.ref 0] h = some (.int v, h1)) (e2 : F_X3_thaw [.ref 60] h1 = some (.int v, h2)) (hcap : zcap Z h2) (kk : zw Z 7 2033 L [true, true, true, true, false] [] h2) : zw Z 7 1839 L [true, true, true, true, false] [] h := by
  have iS := zinvV (cc := code) (nL := 7) (d := 300) (ini := false) lk_X0_243 (Or.inl rfl) (Nat.le_of_ble_eq_true rfl) dL_law_1840
  have iM := zinvV (cc := code) (nL := 7) (d := 300) (ini := false) lk_X0_246 (Or.inl rfl) (Nat.le_of_ble_eq_true rfl) dL_law_1844
  have hc1 : zcap Z h1 := zcap_le (iM.1 _ _ _ _ e2) hcap
  refine zw_aload_n (i := 1) hX rfl rfl dL_law_1839 ?_
  rw [hL1]
  refine iS.2 Z hX L [true, true, true, true, false] [] h h1 [.ref 0] _ e1 rfl hc1 (Nat.zero_le _) ?_
  refine zw_aload_n (i := 2) hX rfl rfl dL_law_1843 ?_
  rw [hL2]
  refine iM.2 Z hX L [true, true, true, true, false] [.int v] h1 h2 [.ref 60] _ e2 rfl hcap (Nat.le_of_ble_eq_true rfl) ?_
  exact zjT_eq dL_law_1847 rfl Z hX L [true, true, true, true, false] [] h2 v v (fun _ => kk) (fun q => absurd q (by unfold zEQ; rw [decide_eq_true rfl]; decide))
theorem lk_X0_247 : zlkV RX0 247 1 0 1 F_X1_suspects := ⟨yX1_suspects, cX1_suspects, 4, some .int, 0, RX1, TX1, 52, M_X1_suspects, zrcv_vt, zcls0, (Nat.le_of_ble_eq_true rfl), q906, q907, q908, q89, q909, rfl, by decide, by decide, rfl⟩
theorem lk_X0_250 : zlkV RX0 250 1 0 1 F_X3_suspects := ⟨yX3_suspects, cX3_suspects, 4, some .int, 2, RX3, TX3, 52, M_X3_suspects, zrcv_vt, zcls2, (Nat.le_of_ble_eq_true rfl), q1617, q1618, q1619, q91, q1620, rfl, by decide, by decide, rfl⟩
theorem C_suspects {Z : ZK} {L : Fr} {h h1 h2 : Hp} {xs : Nat → Int32} {N i : Nat} {v : Int32} (hX : zx RX0 code 7 300 false Z) (hS : zsc Z N xs) (hN : N ≤ 320) (hL0 : L.2 0 = some 1000012) (hL1 : L.2 1 = some 0) (hL2 : L.2 2 = some 60) (hi : L.1 4 = Int32.ofNat i) (hiN : i + 5 ≤ N) (e1 : F_X1_suspects [.ref 0, .int (xs (i + 1))] h = some (.int v, h1)) (e2 : F_X3_suspects [.ref 60, .int (xs (i + 1))] h1 = some (.int v, h2)) (hcap : zcap Z h2) (kk : zw Z 7 2033 L [true, true, true, true, false] [] h2) : zw Z 7 1852 L [true, true, true, true, false] [] h := by
  have iS := zinvV (cc := code) (nL := 7) (d := 300) (ini := false) lk_X0_247 (Or.inl rfl) (Nat.le_of_ble_eq_true rfl) dL_law_1859
  have iM := zinvV (cc := code) (nL := 7) (d := 300) (ini := false) lk_X0_250 (Or.inl rfl) (Nat.le_of_ble_eq_true rfl) dL_law_1869
  have hc1 : zcap Z h1 := zcap_le (iM.1 _ _ _ _ e2) hcap
  refine zw_aload_n (i := 1) hX rfl rfl dL_law_1852 ?_
  rw [hL1]
  refine zw_arg (j := 1) hX hS hN hL0 hi (by omega) rfl rfl (by decide) dL_law_1853 dL_law_1854 dL_law_1856 dL_law_1857 dL_law_1858 (Nat.le_of_ble_eq_true rfl) ?_
  refine iS.2 Z hX L [true, true, true, true, false] [] h h1 [.ref 0, .int (xs (i + 1))] _ e1 rfl hc1 (Nat.zero_le _) ?_
  refine zw_aload_n (i := 2) hX rfl rfl dL_law_1862 ?_
  rw [hL2]
  refine zw_arg (j := 1) hX hS hN hL0 hi (by omega) rfl rfl (by decide) dL_law_1863 dL_law_1864 dL_law_1866 dL_law_1867 dL_law_1868 (Nat.le_of_ble_eq_true rfl) ?_
  refine iM.2 Z hX L [true, true, true, true, false] [.int v] h1 h2 [.ref 60, .int (xs (i + 1))] _ e2 rfl hcap (Nat.le_of_ble_eq_true rfl) ?_
  exact zjT_eq dL_law_1872 rfl Z hX L [true, true, true, true, false] [] h2 v v (fun _ => kk) (fun q => absurd q (by unfold zEQ; rw [decide_eq_true rfl]; decide))
theorem lk_X0_251 : zlkV RX0 251 1 0 1 F_X1_gang := ⟨yX1_gang, cX1_gang, 6, some .int, 0, RX1, TX1, 52, M_X1_gang, zrcv_vt, zcls0, (Nat.le_of_ble_eq_true rfl), q914, q915, q916, q89, q917, rfl, by decide, by decide, rfl⟩
theorem lk_X0_254 : zlkV RX0 254 1 0 1 F_X3_gang := ⟨yX3_gang, cX3_gang, 6, some .int, 2, RX3, TX3, 52, M_X3_gang, zrcv_vt, zcls2, (Nat.le_of_ble_eq_true rfl), q1628, q1629, q1630, q91, q1631, rfl, by decide, by decide, rfl⟩
theorem C_gang {Z : ZK} {L : Fr} {h h1 h2 : Hp} {xs : Nat → Int32} {N i : Nat} {v : Int32} (hX : zx RX0 code 7 300 false Z) (hS : zsc Z N xs) (hN : N ≤ 320) (hL0 : L.2 0 = some 1000012) (hL1 : L.2 1 = some 0) (hL2 : L.2 2 = some 60) (hi : L.1 4 = Int32.ofNat i) (hiN : i + 5 ≤ N) (e1 : F_X1_gang [.ref 0, .int (xs (i + 1))] h = some (.int v, h1)) (e2 : F_X3_gang [.ref 60, .int (xs (i + 1))] h1 = some (.int v, h2)) (hcap : zcap Z h2) (kk : zw Z 7 2033 L [true, true, true, true, false] [] h2) : zw Z 7 1877 L [true, true, true, true, false] [] h := by
  have iS := zinvV (cc := code) (nL := 7) (d := 300) (ini := false) lk_X0_251 (Or.inl rfl) (Nat.le_of_ble_eq_true rfl) dL_law_1884
  have iM := zinvV (cc := code) (nL := 7) (d := 300) (ini := false) lk_X0_254 (Or.inl rfl) (Nat.le_of_ble_eq_true rfl) dL_law_1894
  have hc1 : zcap Z h1 := zcap_le (iM.1 _ _ _ _ e2) hcap
  refine zw_aload_n (i := 1) hX rfl rfl dL_law_1877 ?_
  rw [hL1]
  refine zw_arg (j := 1) hX hS hN hL0 hi (by omega) rfl rfl (by decide) dL_law_1878 dL_law_1879 dL_law_1881 dL_law_1882 dL_law_1883 (Nat.le_of_ble_eq_true rfl) ?_
  refine iS.2 Z hX L [true, true, true, true, false] [] h h1 [.ref 0, .int (xs (i + 1))] _ e1 rfl hc1 (Nat.zero_le _) ?_
  refine zw_aload_n (i := 2) hX rfl rfl dL_law_1887 ?_
  rw [hL2]
  refine zw_arg (j := 1) hX hS hN hL0 hi (by omega) rfl rfl (by decide) dL_law_1888 dL_law_1889 dL_law_1891 dL_law_1892 dL_law_1893 (Nat.le_of_ble_eq_true rfl) ?_
  refine iM.2 Z hX L [true, true, true, true, false] [.int v] h1 h2 [.ref 60, .int (xs (i + 1))] _ e2 rfl hcap (Nat.le_of_ble_eq_true rfl) ?_
  exact zjT_eq dL_law_1897 rfl Z hX L [true, true, true, true, false] [] h2 v v (fun _ => kk) (fun q => absurd q (by unfold zEQ; rw [decide_eq_true rfl]; decide))
theorem lk_X0_255 : zlkV RX0 255 1 0 2 F_X1_keep := ⟨yX1_keep, cX1_keep, 2, some .boolean, 0, RX1, TX1, 52, M_X1_keep, zrcv_vt, zcls0, (Nat.le_of_ble_eq_true rfl), q924, q925, q926, q89, q927, rfl, by decide, by decide, rfl⟩
theorem lk_X0_258 : zlkV RX0 258 1 0 1 F_X3_keep := ⟨yX3_keep, cX3_keep, 2, some .boolean, 2, RX3, TX3, 52, M_X3_keep, zrcv_vt, zcls2, (Nat.le_of_ble_eq_true rfl), q1633, q1634, q1635, q91, q1636, rfl, by decide, by decide, rfl⟩
theorem C_keep {Z : ZK} {L : Fr} {h h1 h2 : Hp} {xs : Nat → Int32} {N i : Nat} {v : Int32} (hX : zx RX0 code 7 300 false Z) (hS : zsc Z N xs) (hN : N ≤ 320) (hL0 : L.2 0 = some 1000012) (hL1 : L.2 1 = some 0) (hL2 : L.2 2 = some 60) (hi : L.1 4 = Int32.ofNat i) (hiN : i + 5 ≤ N) (e1 : F_X1_keep [.ref 0, .int (xs (i + 1))] h = some (.int v, h1)) (e2 : F_X3_keep [.ref 60, .int (xs (i + 1))] h1 = some (.int v, h2)) (hcap : zcap Z h2) (kk : zw Z 7 2033 L [true, true, true, true, false] [] h2) : zw Z 7 1902 L [true, true, true, true, false] [] h := by
  have iS := zinvV (cc := code) (nL := 7) (d := 300) (ini := false) lk_X0_255 (Or.inl rfl) (Nat.le_of_ble_eq_true rfl) dL_law_1909
  have iM := zinvV (cc := code) (nL := 7) (d := 300) (ini := false) lk_X0_258 (Or.inl rfl) (Nat.le_of_ble_eq_true rfl) dL_law_1919
  have hc1 : zcap Z h1 := zcap_le (iM.1 _ _ _ _ e2) hcap
  refine zw_aload_n (i := 1) hX rfl rfl dL_law_1902 ?_
  rw [hL1]
  refine zw_arg (j := 1) hX hS hN hL0 hi (by omega) rfl rfl (by decide) dL_law_1903 dL_law_1904 dL_law_1906 dL_law_1907 dL_law_1908 (Nat.le_of_ble_eq_true rfl) ?_
  refine iS.2 Z hX L [true, true, true, true, false] [] h h1 [.ref 0, .int (xs (i + 1))] _ e1 rfl hc1 (Nat.zero_le _) ?_
  refine zw_aload_n (i := 2) hX rfl rfl dL_law_1912 ?_
  rw [hL2]
  refine zw_arg (j := 1) hX hS hN hL0 hi (by omega) rfl rfl (by decide) dL_law_1913 dL_law_1914 dL_law_1916 dL_law_1917 dL_law_1918 (Nat.le_of_ble_eq_true rfl) ?_
  refine iM.2 Z hX L [true, true, true, true, false] [.int v] h1 h2 [.ref 60, .int (xs (i + 1))] _ e2 rfl hcap (Nat.le_of_ble_eq_true rfl) ?_
  exact zjT_eq dL_law_1922 rfl Z hX L [true, true, true, true, false] [] h2 v v (fun _ => kk) (fun q => absurd q (by unfold zEQ; rw [decide_eq_true rfl]; decide))
theorem lk_X0_259 : zlkV RX0 259 1 0 2 F_X1_again := ⟨yX1_again, cX1_again, 2, some .boolean, 0, RX1, TX1, 52, M_X1_again, zrcv_vt, zcls0, (Nat.le_of_ble_eq_true rfl), q928, q929, q930, q89, q931, rfl, by decide, by decide, rfl⟩
theorem lk_X0_262 : zlkV RX0 262 1 0 1 F_X3_again := ⟨yX3_again, cX3_again, 3, some .boolean, 2, RX3, TX3, 52, M_X3_again, zrcv_vt, zcls2, (Nat.le_of_ble_eq_true rfl), q1637, q1638, q1639, q91, q1640, rfl, by decide, by decide, rfl⟩
theorem C_again {Z : ZK} {L : Fr} {h h1 h2 : Hp} {xs : Nat → Int32} {N i : Nat} {v : Int32} (hX : zx RX0 code 7 300 false Z) (hS : zsc Z N xs) (hN : N ≤ 320) (hL0 : L.2 0 = some 1000012) (hL1 : L.2 1 = some 0) (hL2 : L.2 2 = some 60) (hi : L.1 4 = Int32.ofNat i) (hiN : i + 5 ≤ N) (e1 : F_X1_again [.ref 0, .int (xs (i + 1))] h = some (.int v, h1)) (e2 : F_X3_again [.ref 60, .int (xs (i + 1))] h1 = some (.int v, h2)) (hcap : zcap Z h2) (kk : zw Z 7 2033 L [true, true, true, true, false] [] h2) : zw Z 7 1927 L [true, true, true, true, false] [] h := by
  have iS := zinvV (cc := code) (nL := 7) (d := 300) (ini := false) lk_X0_259 (Or.inl rfl) (Nat.le_of_ble_eq_true rfl) dL_law_1934
  have iM := zinvV (cc := code) (nL := 7) (d := 300) (ini := false) lk_X0_262 (Or.inl rfl) (Nat.le_of_ble_eq_true rfl) dL_law_1944
  have hc1 : zcap Z h1 := zcap_le (iM.1 _ _ _ _ e2) hcap
  refine zw_aload_n (i := 1) hX rfl rfl dL_law_1927 ?_
  rw [hL1]
  refine zw_arg (j := 1) hX hS hN hL0 hi (by omega) rfl rfl (by decide) dL_law_1928 dL_law_1929 dL_law_1931 dL_law_1932 dL_law_1933 (Nat.le_of_ble_eq_true rfl) ?_
  refine iS.2 Z hX L [true, true, true, true, false] [] h h1 [.ref 0, .int (xs (i + 1))] _ e1 rfl hc1 (Nat.zero_le _) ?_
  refine zw_aload_n (i := 2) hX rfl rfl dL_law_1937 ?_
  rw [hL2]
  refine zw_arg (j := 1) hX hS hN hL0 hi (by omega) rfl rfl (by decide) dL_law_1938 dL_law_1939 dL_law_1941 dL_law_1942 dL_law_1943 (Nat.le_of_ble_eq_true rfl) ?_
  refine iM.2 Z hX L [true, true, true, true, false] [.int v] h1 h2 [.ref 60, .int (xs (i + 1))] _ e2 rfl hcap (Nat.le_of_ble_eq_true rfl) ?_
  exact zjT_eq dL_law_1947 rfl Z hX L [true, true, true, true, false] [] h2 v v (fun _ => kk) (fun q => absurd q (by unfold zEQ; rw [decide_eq_true rfl]; decide))
theorem lk_X0_263 : zlkV RX0 263 1 0 1 F_X1_count := ⟨yX1_count, cX1_count, 2, some .int, 0, RX1, TX1, 52, M_X1_count, zrcv_vt, zcls0, (Nat.le_of_ble_eq_true rfl), q932, q933, q934, q89, q935, rfl, by decide, by decide, rfl⟩
theorem lk_X0_266 : zlkV RX0 266 1 0 2 F_X3_count := ⟨yX3_count, cX3_count, 4, some .int, 2, RX3, TX3, 52, M_X3_count, zrcv_vt, zcls2, (Nat.le_of_ble_eq_true rfl), q1641, q1642, q1643, q91, q1644, rfl, by decide, by decide, rfl⟩
theorem C_count {Z : ZK} {L : Fr} {h h1 h2 : Hp} {xs : Nat → Int32} {N i : Nat} {v : Int32} (hX : zx RX0 code 7 300 false Z) (hS : zsc Z N xs) (hN : N ≤ 320) (hL0 : L.2 0 = some 1000012) (hL1 : L.2 1 = some 0) (hL2 : L.2 2 = some 60) (hi : L.1 4 = Int32.ofNat i) (hiN : i + 5 ≤ N) (e1 : F_X1_count [.ref 0, .int (xs (i + 1))] h = some (.int v, h1)) (e2 : F_X3_count [.ref 60, .int (xs (i + 1))] h1 = some (.int v, h2)) (hcap : zcap Z h2) (kk : zw Z 7 2033 L [true, true, true, true, false] [] h2) : zw Z 7 1952 L [true, true, true, true, false] [] h := by
  have iS := zinvV (cc := code) (nL := 7) (d := 300) (ini := false) lk_X0_263 (Or.inl rfl) (Nat.le_of_ble_eq_true rfl) dL_law_1959
  have iM := zinvV (cc := code) (nL := 7) (d := 300) (ini := false) lk_X0_266 (Or.inl rfl) (Nat.le_of_ble_eq_true rfl) dL_law_1969
  have hc1 : zcap Z h1 := zcap_le (iM.1 _ _ _ _ e2) hcap
  refine zw_aload_n (i := 1) hX rfl rfl dL_law_1952 ?_
  rw [hL1]
  refine zw_arg (j := 1) hX hS hN hL0 hi (by omega) rfl rfl (by decide) dL_law_1953 dL_law_1954 dL_law_1956 dL_law_1957 dL_law_1958 (Nat.le_of_ble_eq_true rfl) ?_
  refine iS.2 Z hX L [true, true, true, true, false] [] h h1 [.ref 0, .int (xs (i + 1))] _ e1 rfl hc1 (Nat.zero_le _) ?_
  refine zw_aload_n (i := 2) hX rfl rfl dL_law_1962 ?_
  rw [hL2]
  refine zw_arg (j := 1) hX hS hN hL0 hi (by omega) rfl rfl (by decide) dL_law_1963 dL_law_1964 dL_law_1966 dL_law_1967 dL_law_1968 (Nat.le_of_ble_eq_true rfl) ?_
  refine iM.2 Z hX L [true, true, true, true, false] [.int v] h1 h2 [.ref 60, .int (xs (i + 1))] _ e2 rfl hcap (Nat.le_of_ble_eq_true rfl) ?_
  exact zjT_eq dL_law_1972 rfl Z hX L [true, true, true, true, false] [] h2 v v (fun _ => kk) (fun q => absurd q (by unfold zEQ; rw [decide_eq_true rfl]; decide))
theorem lk_X0_269 : zlkV RX0 269 1 0 1 F_X3_row := ⟨yX3_row, cX3_row, 2, some .int, 2, RX3, TX3, 52, M_X3_row, zrcv_vt, zcls2, (Nat.le_of_ble_eq_true rfl), q1645, q1646, q1647, q91, q1648, rfl, by decide, by decide, rfl⟩
