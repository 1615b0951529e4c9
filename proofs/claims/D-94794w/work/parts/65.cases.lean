/-! THE LAW'S CASES (written by gen/law.py). -/
set_option maxRecDepth 100000
theorem C_of {p : Program} {l : Launch} {e : Env} {R : Room} {s : State} {m : MethodId} {args : Array Value} {below : List Frame} {meth : Method} {c : Code} {Q : State → Prop} {A : Nat → Prop} {G : ZG} {cC cS : Nat} {L : Fr} {h h1 h2 h3 : Hp} {xs : Nat → Int32} {N i : Nat} {v b : Int32} (hX : zx RX0 code 7 300 false (p, l, e, R, s, m, args, below, meth, c, Q, A, G, cC + 1, cS + 6)) (hX1 : zx RX0 code 7 300 false (p, l, e, R, s, m, args, below, meth, c, Q, A, G, cC, cS)) (hS : zsc (p, l, e, R, s, m, args, below, meth, c, Q, A, G, cC + 1, cS + 6) N xs) (hl : l.stackTraces = false) (hN : N ≤ 320) (hL0 : L.2 0 = some 1000012) (hL1 : L.2 1 = some 0) (hL2 : L.2 2 = some 60) (hL3 : L.2 3 = some 86) (hi : L.1 4 = Int32.ofNat i) (hiN : i + 5 ≤ N) (hwf : zwf h) (hlen : 87 ≤ h.2.2.length) (e1 : zhm B_X1_of [.ref 0, .int (xs (i + 1)), .int (xs (i + 2))] 0 86 h = some (v, h1)) (e2 : F_X3_of [.ref 60, .int (xs (i + 1)), .int (xs (i + 2))] h1 = some (.int b, h2)) (e3 : F_X3_thrown [.ref 60] h2 = some (.int v, h3)) (ho : h3.2.2[86]? = some (104, 1)) (hv : v = 0 → h3.1 86 0 = b) (hcap : h3.2.2.length ≤ cC ∧ zsum h3.2.2 ≤ cS) (kk : zw (p, l, e, R, s, m, args, below, meth, c, Q, A, G, cC, cS) 7 2033 (upd (upd L.1 5 v) 6 b, L.2) [true, true, true, true, false] [] h3) : zw (p, l, e, R, s, m, args, below, meth, c, Q, A, G, cC + 1, cS + 6) 7 435 L [true, true, true, true, false] [] h := by
  have iM := zinvV (cc := code) (nL := 7) (d := 300) (ini := false) lk_X0_67 (Or.inl rfl) (Nat.le_of_ble_eq_true rfl) dL_law_467
  have iT := zinvV (cc := code) (nL := 7) (d := 300) (ini := false) lk_X0_68 (Or.inl rfl) (Nat.le_of_ble_eq_true rfl) dL_law_473
  have hle1 : zle h h1 := by
    obtain ⟨-, r, hr, hcase⟩ := zhm_key e1
    have := W_X1_of.1 _ _ _ hr
    rcases hcase with ⟨-, -, -, rfl⟩ | ⟨-, -, rfl⟩
    · exact zle_trans this (zle_eq rfl)
    · exact this
  have hle3 := iT.1 _ _ _ _ e3
  have hle2 := iM.1 _ _ _ _ e2
  have hc3 : zcap (p, l, e, R, s, m, args, below, meth, c, Q, A, G, cC, cS) h3 := hcap
  have hc2 : zcap (p, l, e, R, s, m, args, below, meth, c, Q, A, G, cC, cS) h2 := zcap_le hle3 hc3
  have hc1 : zcap (p, l, e, R, s, m, args, below, meth, c, Q, A, G, cC, cS) h1 := zcap_le hle2 hc2
  have hcm : cC + 1 ≤ 1000000 := hX.2.2.2.2.2.2.2.2.2.2.2.2.1
  refine zw_aload_n (i := 1) hX rfl rfl dL_law_435 ?_
  rw [hL1]
  refine zw_arg (j := 1) hX hS hN hL0 hi (by omega) rfl rfl (by decide) dL_law_436 dL_law_437 dL_law_439 dL_law_440 dL_law_441 (Nat.le_of_ble_eq_true rfl) ?_
  refine zw_arg (j := 2) hX hS hN hL0 hi (by omega) rfl rfl (by decide) dL_law_442 dL_law_443 dL_law_445 dL_law_446 dL_law_447 (Nat.le_of_ble_eq_true rfl) ?_
  refine zw_aload_n (i := 3) hX rfl rfl dL_law_448 ?_
  rw [hL3]
  refine zw_callH (as := [.ref 0, .int (xs (i + 1)), .int (xs (i + 2)), .ref 86]) (st := []) (v := v) (h2 := h1) hX (fun ad sz hstr => H_X0_of hl e1 hwf (Or.inl (by omega)) (Or.inl (by omega)) (by have := hc1.1; omega) hstr) hle1 (Nat.le_of_ble_eq_true rfl) (Nat.le_of_ble_eq_true rfl) q936 q937 q88 q938 ⟨by decide, by decide, rfl⟩ dL_law_449 rfl hc1 (Nat.zero_le _) ?_
  refine zw_istore (i := 5) (ts2 := [true, true, true, true, false, false]) hX1 (Nat.le_of_ble_eq_true rfl) (ztsto_new rfl) dL_law_452 ?_
  have hi : (upd L.1 5 v) 4 = Int32.ofNat i := by rw [← hi]; rfl
  refine zw_aload_n (i := 2) hX1 rfl rfl dL_law_454 ?_
  dsimp only
  rw [hL2]
  refine zw_arg (j := 1) hX1 hS hN hL0 hi (by omega) rfl rfl (by decide) dL_law_455 dL_law_456 dL_law_458 dL_law_459 dL_law_460 (Nat.le_of_ble_eq_true rfl) ?_
  refine zw_arg (j := 2) hX1 hS hN hL0 hi (by omega) rfl rfl (by decide) dL_law_461 dL_law_462 dL_law_464 dL_law_465 dL_law_466 (Nat.le_of_ble_eq_true rfl) ?_
  refine iM.2 _ hX1 (upd L.1 5 v, L.2) [true, true, true, true, false, false] [] h1 h2 [.ref 60, .int (xs (i + 1)), .int (xs (i + 2))] _ e2 rfl hc2 (Nat.zero_le _) ?_
  refine zw_istore (i := 6) (ts2 := [true, true, true, true, false, false, false]) hX1 (Nat.le_of_ble_eq_true rfl) (ztsto_new rfl) dL_law_470 ?_
  refine zw_aload_n (i := 2) hX1 rfl rfl dL_law_472 ?_
  dsimp only
  rw [hL2]
  refine iT.2 _ hX1 (upd (upd L.1 5 v) 6 b, L.2) [true, true, true, true, false, false, false] [] h2 h3 [.ref 60] _ e3 rfl hc3 (Nat.zero_le _) ?_
  refine zw_iload (i := 5) hX1 rfl dL_law_476 ?_
  refine zjT_eq dL_law_478 rfl _ hX1 (upd (upd L.1 5 v) 6 b, L.2) [true, true, true, true, false, false, false] [] h3 v v (fun _ => ?_) (fun q => absurd q (by unfold zEQ; rw [decide_eq_true rfl]; decide))
  have kk2 : zw (p, l, e, R, s, m, args, below, meth, c, Q, A, G, cC, cS) 7 500 (upd (upd L.1 5 v) 6 b, L.2) [true, true, true, true, false, false, false] [] h3 := zw_goto hX1 rfl dL_law_500 (zw_less (ts2 := [true, true, true, true, false]) (ztake (l := [true, true, true, true, false, false, false]) 5) kk)
  refine zw_iload (i := 5) hX1 rfl dL_law_483 ?_
  refine z0T_ne dL_law_485 rfl _ hX1 (upd (upd L.1 5 v) 6 b, L.2) [true, true, true, true, false, false, false] [] h3 v (fun _ => kk2) (fun q => ?_)
  have hv0 : v = 0 := by
    unfold zNE at q
    exact Decidable.not_not.mp (of_decide_eq_false q)
  refine zw_aload_n (i := 3) hX1 rfl rfl dL_law_488 ?_
  dsimp only
  rw [hL3]
  refine zw_const hX1 0 rfl dL_law_489 ?_
  refine zw_lald hX1 dL_law_490 ho rfl ?_
  refine zw_iload (i := 6) hX1 rfl dL_law_491 ?_
  refine zw_i2l hX1 dL_law_493 ?_
  refine zw_lcmp hX1 dL_law_494 ?_
  refine z0T_eq dL_law_495 rfl _ hX1 (upd (upd L.1 5 v) 6 b, L.2) [true, true, true, true, false, false, false] [] h3 _ (fun _ => kk2) (fun q => absurd q ?_)
  show ¬ zEQ (lg_cmp (h3.1 86 0).toInt64 b.toInt64) 0 = false
  rw [hv hv0, (lg_cmp_eq _ _).mpr rfl]
  decide
theorem C_net {p : Program} {l : Launch} {e : Env} {R : Room} {s : State} {m : MethodId} {args : Array Value} {below : List Frame} {meth : Method} {c : Code} {Q : State → Prop} {A : Nat → Prop} {G : ZG} {cC cS : Nat} {L : Fr} {h h1 h2 h3 : Hp} {xs : Nat → Int32} {N i : Nat} {v b : Int32} (hX : zx RX0 code 7 300 false (p, l, e, R, s, m, args, below, meth, c, Q, A, G, cC + 1, cS + 6)) (hX1 : zx RX0 code 7 300 false (p, l, e, R, s, m, args, below, meth, c, Q, A, G, cC, cS)) (hS : zsc (p, l, e, R, s, m, args, below, meth, c, Q, A, G, cC + 1, cS + 6) N xs) (hl : l.stackTraces = false) (hN : N ≤ 320) (hL0 : L.2 0 = some 1000012) (hL1 : L.2 1 = some 0) (hL2 : L.2 2 = some 60) (hL3 : L.2 3 = some 86) (hi : L.1 4 = Int32.ofNat i) (hiN : i + 5 ≤ N) (hwf : zwf h) (hlen : 87 ≤ h.2.2.length) (e1 : zhm B_X1_net [.ref 0, .int (xs (i + 1))] 0 86 h = some (v, h1)) (e2 : F_X3_net [.ref 60, .int (xs (i + 1))] h1 = some (.int b, h2)) (e3 : F_X3_thrown [.ref 60] h2 = some (.int v, h3)) (ho : h3.2.2[86]? = some (104, 1)) (hv : v = 0 → h3.1 86 0 = b) (hcap : h3.2.2.length ≤ cC ∧ zsum h3.2.2 ≤ cS) (kk : zw (p, l, e, R, s, m, args, below, meth, c, Q, A, G, cC, cS) 7 2033 (upd (upd L.1 5 v) 6 b, L.2) [true, true, true, true, false] [] h3) : zw (p, l, e, R, s, m, args, below, meth, c, Q, A, G, cC + 1, cS + 6) 7 975 L [true, true, true, true, false] [] h := by
  have iM := zinvV (cc := code) (nL := 7) (d := 300) (ini := false) lk_X0_140 (Or.inl rfl) (Nat.le_of_ble_eq_true rfl) dL_law_995
  have iT := zinvV (cc := code) (nL := 7) (d := 300) (ini := false) lk_X0_68 (Or.inl rfl) (Nat.le_of_ble_eq_true rfl) dL_law_1001
  have hle1 : zle h h1 := by
    obtain ⟨-, r, hr, hcase⟩ := zhm_key e1
    have := W_X1_net.1 _ _ _ hr
    rcases hcase with ⟨-, -, -, rfl⟩ | ⟨-, -, rfl⟩
    · exact zle_trans this (zle_eq rfl)
    · exact this
  have hle3 := iT.1 _ _ _ _ e3
  have hle2 := iM.1 _ _ _ _ e2
  have hc3 : zcap (p, l, e, R, s, m, args, below, meth, c, Q, A, G, cC, cS) h3 := hcap
  have hc2 : zcap (p, l, e, R, s, m, args, below, meth, c, Q, A, G, cC, cS) h2 := zcap_le hle3 hc3
  have hc1 : zcap (p, l, e, R, s, m, args, below, meth, c, Q, A, G, cC, cS) h1 := zcap_le hle2 hc2
  have hcm : cC + 1 ≤ 1000000 := hX.2.2.2.2.2.2.2.2.2.2.2.2.1
  refine zw_aload_n (i := 1) hX rfl rfl dL_law_975 ?_
  rw [hL1]
  refine zw_arg (j := 1) hX hS hN hL0 hi (by omega) rfl rfl (by decide) dL_law_976 dL_law_977 dL_law_979 dL_law_980 dL_law_981 (Nat.le_of_ble_eq_true rfl) ?_
  refine zw_aload_n (i := 3) hX rfl rfl dL_law_982 ?_
  rw [hL3]
  refine zw_callH (as := [.ref 0, .int (xs (i + 1)), .ref 86]) (st := []) (v := v) (h2 := h1) hX (fun ad sz hstr => H_X0_net hl e1 hwf (Or.inl (by omega)) (Or.inl (by omega)) (by have := hc1.1; omega) hstr) hle1 (Nat.le_of_ble_eq_true rfl) (Nat.le_of_ble_eq_true rfl) q1005 q1006 q88 q1007 ⟨by decide, by decide, rfl⟩ dL_law_983 rfl hc1 (Nat.zero_le _) ?_
  refine zw_istore (i := 5) (ts2 := [true, true, true, true, false, false]) hX1 (Nat.le_of_ble_eq_true rfl) (ztsto_new rfl) dL_law_986 ?_
  have hi : (upd L.1 5 v) 4 = Int32.ofNat i := by rw [← hi]; rfl
  refine zw_aload_n (i := 2) hX1 rfl rfl dL_law_988 ?_
  dsimp only
  rw [hL2]
  refine zw_arg (j := 1) hX1 hS hN hL0 hi (by omega) rfl rfl (by decide) dL_law_989 dL_law_990 dL_law_992 dL_law_993 dL_law_994 (Nat.le_of_ble_eq_true rfl) ?_
  refine iM.2 _ hX1 (upd L.1 5 v, L.2) [true, true, true, true, false, false] [] h1 h2 [.ref 60, .int (xs (i + 1))] _ e2 rfl hc2 (Nat.zero_le _) ?_
  refine zw_istore (i := 6) (ts2 := [true, true, true, true, false, false, false]) hX1 (Nat.le_of_ble_eq_true rfl) (ztsto_new rfl) dL_law_998 ?_
  refine zw_aload_n (i := 2) hX1 rfl rfl dL_law_1000 ?_
  dsimp only
  rw [hL2]
  refine iT.2 _ hX1 (upd (upd L.1 5 v) 6 b, L.2) [true, true, true, true, false, false, false] [] h2 h3 [.ref 60] _ e3 rfl hc3 (Nat.zero_le _) ?_
  refine zw_iload (i := 5) hX1 rfl dL_law_1004 ?_
  refine zjT_eq dL_law_1006 rfl _ hX1 (upd (upd L.1 5 v) 6 b, L.2) [true, true, true, true, false, false, false] [] h3 v v (fun _ => ?_) (fun q => absurd q (by unfold zEQ; rw [decide_eq_true rfl]; decide))
  have kk2 : zw (p, l, e, R, s, m, args, below, meth, c, Q, A, G, cC, cS) 7 1028 (upd (upd L.1 5 v) 6 b, L.2) [true, true, true, true, false, false, false] [] h3 := zw_goto hX1 rfl dL_law_1028 (zw_less (ts2 := [true, true, true, true, false]) (ztake (l := [true, true, true, true, false, false, false]) 5) kk)
  refine zw_iload (i := 5) hX1 rfl dL_law_1011 ?_
  refine z0T_ne dL_law_1013 rfl _ hX1 (upd (upd L.1 5 v) 6 b, L.2) [true, true, true, true, false, false, false] [] h3 v (fun _ => kk2) (fun q => ?_)
  have hv0 : v = 0 := by
    unfold zNE at q
    exact Decidable.not_not.mp (of_decide_eq_false q)
  refine zw_aload_n (i := 3) hX1 rfl rfl dL_law_1016 ?_
  dsimp only
  rw [hL3]
  refine zw_const hX1 0 rfl dL_law_1017 ?_
  refine zw_lald hX1 dL_law_1018 ho rfl ?_
  refine zw_iload (i := 6) hX1 rfl dL_law_1019 ?_
  refine zw_i2l hX1 dL_law_1021 ?_
  refine zw_lcmp hX1 dL_law_1022 ?_
  refine z0T_eq dL_law_1023 rfl _ hX1 (upd (upd L.1 5 v) 6 b, L.2) [true, true, true, true, false, false, false] [] h3 _ (fun _ => kk2) (fun q => absurd q ?_)
  show ¬ zEQ (lg_cmp (h3.1 86 0).toInt64 b.toInt64) 0 = false
  rw [hv hv0, (lg_cmp_eq _ _).mpr rfl]
  decide
theorem C_bare {p : Program} {l : Launch} {e : Env} {R : Room} {s : State} {m : MethodId} {args : Array Value} {below : List Frame} {meth : Method} {c : Code} {Q : State → Prop} {A : Nat → Prop} {G : ZG} {cC cS : Nat} {L : Fr} {h h1 h2 h3 : Hp} {xs : Nat → Int32} {N i : Nat} {v b : Int32} (hX : zx RX0 code 7 300 false (p, l, e, R, s, m, args, below, meth, c, Q, A, G, cC + 1, cS + 6)) (hX1 : zx RX0 code 7 300 false (p, l, e, R, s, m, args, below, meth, c, Q, A, G, cC, cS)) (hS : zsc (p, l, e, R, s, m, args, below, meth, c, Q, A, G, cC + 1, cS + 6) N xs) (hl : l.stackTraces = false) (hN : N ≤ 320) (hL0 : L.2 0 = some 1000012) (hL1 : L.2 1 = some 0) (hL2 : L.2 2 = some 60) (hL3 : L.2 3 = some 86) (hi : L.1 4 = Int32.ofNat i) (hiN : i + 5 ≤ N) (hwf : zwf h) (hlen : 87 ≤ h.2.2.length) (e1 : zhm B_X1_bare [.ref 0, .int (xs (i + 1)), .int (xs (i + 2))] 0 86 h = some (v, h1)) (e2 : F_X3_bare [.ref 60, .int (xs (i + 1)), .int (xs (i + 2))] h1 = some (.int b, h2)) (e3 : F_X3_thrown [.ref 60] h2 = some (.int v, h3)) (ho : h3.2.2[86]? = some (104, 1)) (hv : v = 0 → h3.1 86 0 = b) (hcap : h3.2.2.length ≤ cC ∧ zsum h3.2.2 ≤ cS) (kk : zw (p, l, e, R, s, m, args, below, meth, c, Q, A, G, cC, cS) 7 2033 (upd (upd L.1 5 v) 6 b, L.2) [true, true, true, true, false] [] h3) : zw (p, l, e, R, s, m, args, below, meth, c, Q, A, G, cC + 1, cS + 6) 7 1419 L [true, true, true, true, false] [] h := by
  have iM := zinvV (cc := code) (nL := 7) (d := 300) (ini := false) lk_X0_207 (Or.inl rfl) (Nat.le_of_ble_eq_true rfl) dL_law_1451
  have iT := zinvV (cc := code) (nL := 7) (d := 300) (ini := false) lk_X0_68 (Or.inl rfl) (Nat.le_of_ble_eq_true rfl) dL_law_1457
  have hle1 : zle h h1 := by
    obtain ⟨-, r, hr, hcase⟩ := zhm_key e1
    have := W_X1_bare.1 _ _ _ hr
    rcases hcase with ⟨-, -, -, rfl⟩ | ⟨-, -, rfl⟩
    · exact zle_trans this (zle_eq rfl)
    · exact this
  have hle3 := iT.1 _ _ _ _ e3
  have hle2 := iM.1 _ _ _ _ e2
  have hc3 : zcap (p, l, e, R, s, m, args, below, meth, c, Q, A, G, cC, cS) h3 := hcap
  have hc2 : zcap (p, l, e, R, s, m, args, below, meth, c, Q, A, G, cC, cS) h2 := zcap_le hle3 hc3
  have hc1 : zcap (p, l, e, R, s, m, args, below, meth, c, Q, A, G, cC, cS) h1 := zcap_le hle2 hc2
  have hcm : cC + 1 ≤ 1000000 := hX.2.2.2.2.2.2.2.2.2.2.2.2.1
  refine zw_aload_n (i := 1) hX rfl rfl dL_law_1419 ?_
  rw [hL1]
  refine zw_arg (j := 1) hX hS hN hL0 hi (by omega) rfl rfl (by decide) dL_law_1420 dL_law_1421 dL_law_1423 dL_law_1424 dL_law_1425 (Nat.le_of_ble_eq_true rfl) ?_
  refine zw_arg (j := 2) hX hS hN hL0 hi (by omega) rfl rfl (by decide) dL_law_1426 dL_law_1427 dL_law_1429 dL_law_1430 dL_law_1431 (Nat.le_of_ble_eq_true rfl) ?_
  refine zw_aload_n (i := 3) hX rfl rfl dL_law_1432 ?_
  rw [hL3]
  refine zw_callH (as := [.ref 0, .int (xs (i + 1)), .int (xs (i + 2)), .ref 86]) (st := []) (v := v) (h2 := h1) hX (fun ad sz hstr => H_X0_bare hl e1 hwf (Or.inl (by omega)) (Or.inl (by omega)) (by have := hc1.1; omega) hstr) hle1 (Nat.le_of_ble_eq_true rfl) (Nat.le_of_ble_eq_true rfl) q1012 q1013 q88 q1014 ⟨by decide, by decide, rfl⟩ dL_law_1433 rfl hc1 (Nat.zero_le _) ?_
  refine zw_istore (i := 5) (ts2 := [true, true, true, true, false, false]) hX1 (Nat.le_of_ble_eq_true rfl) (ztsto_new rfl) dL_law_1436 ?_
  have hi : (upd L.1 5 v) 4 = Int32.ofNat i := by rw [← hi]; rfl
  refine zw_aload_n (i := 2) hX1 rfl rfl dL_law_1438 ?_
  dsimp only
  rw [hL2]
  refine zw_arg (j := 1) hX1 hS hN hL0 hi (by omega) rfl rfl (by decide) dL_law_1439 dL_law_1440 dL_law_1442 dL_law_1443 dL_law_1444 (Nat.le_of_ble_eq_true rfl) ?_
  refine zw_arg (j := 2) hX1 hS hN hL0 hi (by omega) rfl rfl (by decide) dL_law_1445 dL_law_1446 dL_law_1448 dL_law_1449 dL_law_1450 (Nat.le_of_ble_eq_true rfl) ?_
  refine iM.2 _ hX1 (upd L.1 5 v, L.2) [true, true, true, true, false, false] [] h1 h2 [.ref 60, .int (xs (i + 1)), .int (xs (i + 2))] _ e2 rfl hc2 (Nat.zero_le _) ?_
  refine zw_istore (i := 6) (ts2 := [true, true, true, true, false, false, false]) hX1 (Nat.le_of_ble_eq_true rfl) (ztsto_new rfl) dL_law_1454 ?_
  refine zw_aload_n (i := 2) hX1 rfl rfl dL_law_1456 ?_
  dsimp only
  rw [hL2]
  refine iT.2 _ hX1 (upd (upd L.1 5 v) 6 b, L.2) [true, true, true, true, false, false, false] [] h2 h3 [.ref 60] _ e3 rfl hc3 (Nat.zero_le _) ?_
  refine zw_iload (i := 5) hX1 rfl dL_law_1460 ?_
  refine zjT_eq dL_law_1462 rfl _ hX1 (upd (upd L.1 5 v) 6 b, L.2) [true, true, true, true, false, false, false] [] h3 v v (fun _ => ?_) (fun q => absurd q (by unfold zEQ; rw [decide_eq_true rfl]; decide))
  have kk2 : zw (p, l, e, R, s, m, args, below, meth, c, Q, A, G, cC, cS) 7 1484 (upd (upd L.1 5 v) 6 b, L.2) [true, true, true, true, false, false, false] [] h3 := zw_goto hX1 rfl dL_law_1484 (zw_less (ts2 := [true, true, true, true, false]) (ztake (l := [true, true, true, true, false, false, false]) 5) kk)
  refine zw_iload (i := 5) hX1 rfl dL_law_1467 ?_
  refine z0T_ne dL_law_1469 rfl _ hX1 (upd (upd L.1 5 v) 6 b, L.2) [true, true, true, true, false, false, false] [] h3 v (fun _ => kk2) (fun q => ?_)
  have hv0 : v = 0 := by
    unfold zNE at q
    exact Decidable.not_not.mp (of_decide_eq_false q)
  refine zw_aload_n (i := 3) hX1 rfl rfl dL_law_1472 ?_
  dsimp only
  rw [hL3]
  refine zw_const hX1 0 rfl dL_law_1473 ?_
  refine zw_lald hX1 dL_law_1474 ho rfl ?_
  refine zw_iload (i := 6) hX1 rfl dL_law_1475 ?_
  refine zw_i2l hX1 dL_law_1477 ?_
  refine zw_lcmp hX1 dL_law_1478 ?_
  refine z0T_eq dL_law_1479 rfl _ hX1 (upd (upd L.1 5 v) 6 b, L.2) [true, true, true, true, false, false, false] [] h3 _ (fun _ => kk2) (fun q => absurd q ?_)
  show ¬ zEQ (lg_cmp (h3.1 86 0).toInt64 b.toInt64) 0 = false
  rw [hv hv0, (lg_cmp_eq _ _).mpr rfl]
  decide
theorem C_premium {p : Program} {l : Launch} {e : Env} {R : Room} {s : State} {m : MethodId} {args : Array Value} {below : List Frame} {meth : Method} {c : Code} {Q : State → Prop} {A : Nat → Prop} {G : ZG} {cC cS : Nat} {L : Fr} {h h1 h2 h3 : Hp} {xs : Nat → Int32} {N i : Nat} {v b : Int32} (hX : zx RX0 code 7 300 false (p, l, e, R, s, m, args, below, meth, c, Q, A, G, cC + 1, cS + 6)) (hX1 : zx RX0 code 7 300 false (p, l, e, R, s, m, args, below, meth, c, Q, A, G, cC, cS)) (hS : zsc (p, l, e, R, s, m, args, below, meth, c, Q, A, G, cC + 1, cS + 6) N xs) (hl : l.stackTraces = false) (hN : N ≤ 320) (hL0 : L.2 0 = some 1000012) (hL1 : L.2 1 = some 0) (hL2 : L.2 2 = some 60) (hL3 : L.2 3 = some 86) (hi : L.1 4 = Int32.ofNat i) (hiN : i + 5 ≤ N) (hwf : zwf h) (hlen : 87 ≤ h.2.2.length) (e1 : zhm B_X1_premium [.ref 0, .int (xs (i + 1))] 0 86 h = some (v, h1)) (e2 : F_X3_premium [.ref 60, .int (xs (i + 1))] h1 = some (.int b, h2)) (e3 : F_X3_thrown [.ref 60] h2 = some (.int v, h3)) (ho : h3.2.2[86]? = some (104, 1)) (hv : v = 0 → h3.1 86 0 = b) (hcap : h3.2.2.length ≤ cC ∧ zsum h3.2.2 ≤ cS) (kk : zw (p, l, e, R, s, m, args, below, meth, c, Q, A, G, cC, cS) 7 2033 (upd (upd L.1 5 v) 6 b, L.2) [true, true, true, true, false] [] h3) : zw (p, l, e, R, s, m, args, below, meth, c, Q, A, G, cC + 1, cS + 6) 7 1746 L [true, true, true, true, false] [] h := by
  have iM := zinvV (cc := code) (nL := 7) (d := 300) (ini := false) lk_X0_238 (Or.inl rfl) (Nat.le_of_ble_eq_true rfl) dL_law_1766
  have iT := zinvV (cc := code) (nL := 7) (d := 300) (ini := false) lk_X0_68 (Or.inl rfl) (Nat.le_of_ble_eq_true rfl) dL_law_1772
  have hle1 : zle h h1 := by
    obtain ⟨-, r, hr, hcase⟩ := zhm_key e1
    have := W_X1_premium.1 _ _ _ hr
    rcases hcase with ⟨-, -, -, rfl⟩ | ⟨-, -, rfl⟩
    · exact zle_trans this (zle_eq rfl)
    · exact this
  have hle3 := iT.1 _ _ _ _ e3
  have hle2 := iM.1 _ _ _ _ e2
  have hc3 : zcap (p, l, e, R, s, m, args, below, meth, c, Q, A, G, cC, cS) h3 := hcap
  have hc2 : zcap (p, l, e, R, s, m, args, below, meth, c, Q, A, G, cC, cS) h2 := zcap_le hle3 hc3
  have hc1 : zcap (p, l, e, R, s, m, args, below, meth, c, Q, A, G, cC, cS) h1 := zcap_le hle2 hc2
  have hcm : cC + 1 ≤ 1000000 := hX.2.2.2.2.2.2.2.2.2.2.2.2.1
  refine zw_aload_n (i := 1) hX rfl rfl dL_law_1746 ?_
  rw [hL1]
  refine zw_arg (j := 1) hX hS hN hL0 hi (by omega) rfl rfl (by decide) dL_law_1747 dL_law_1748 dL_law_1750 dL_law_1751 dL_law_1752 (Nat.le_of_ble_eq_true rfl) ?_
  refine zw_aload_n (i := 3) hX rfl rfl dL_law_1753 ?_
  rw [hL3]
  refine zw_callH (as := [.ref 0, .int (xs (i + 1)), .ref 86]) (st := []) (v := v) (h2 := h1) hX (fun ad sz hstr => H_X0_premium hl e1 hwf (Or.inl (by omega)) (Or.inl (by omega)) (by have := hc1.1; omega) hstr) hle1 (Nat.le_of_ble_eq_true rfl) (Nat.le_of_ble_eq_true rfl) q1019 q1020 q88 q1021 ⟨by decide, by decide, rfl⟩ dL_law_1754 rfl hc1 (Nat.zero_le _) ?_
  refine zw_istore (i := 5) (ts2 := [true, true, true, true, false, false]) hX1 (Nat.le_of_ble_eq_true rfl) (ztsto_new rfl) dL_law_1757 ?_
  have hi : (upd L.1 5 v) 4 = Int32.ofNat i := by rw [← hi]; rfl
  refine zw_aload_n (i := 2) hX1 rfl rfl dL_law_1759 ?_
  dsimp only
  rw [hL2]
  refine zw_arg (j := 1) hX1 hS hN hL0 hi (by omega) rfl rfl (by decide) dL_law_1760 dL_law_1761 dL_law_1763 dL_law_1764 dL_law_1765 (Nat.le_of_ble_eq_true rfl) ?_
  refine iM.2 _ hX1 (upd L.1 5 v, L.2) [true, true, true, true, false, false] [] h1 h2 [.ref 60, .int (xs (i + 1))] _ e2 rfl hc2 (Nat.zero_le _) ?_
  refine zw_istore (i := 6) (ts2 := [true, true, true, true, false, false, false]) hX1 (Nat.le_of_ble_eq_true rfl) (ztsto_new rfl) dL_law_1769 ?_
  refine zw_aload_n (i := 2) hX1 rfl rfl dL_law_1771 ?_
  dsimp only
  rw [hL2]
  refine iT.2 _ hX1 (upd (upd L.1 5 v) 6 b, L.2) [true, true, true, true, false, false, false] [] h2 h3 [.ref 60] _ e3 rfl hc3 (Nat.zero_le _) ?_
  refine zw_iload (i := 5) hX1 rfl dL_law_1775 ?_
  refine zjT_eq dL_law_1777 rfl _ hX1 (upd (upd L.1 5 v) 6 b, L.2) [true, true, true, true, false, false, false] [] h3 v v (fun _ => ?_) (fun q => absurd q (by unfold zEQ; rw [decide_eq_true rfl]; decide))
  have kk2 : zw (p, l, e, R, s, m, args, below, meth, c, Q, A, G, cC, cS) 7 1799 (upd (upd L.1 5 v) 6 b, L.2) [true, true, true, true, false, false, false] [] h3 := zw_goto hX1 rfl dL_law_1799 (zw_less (ts2 := [true, true, true, true, false]) (ztake (l := [true, true, true, true, false, false, false]) 5) kk)
  refine zw_iload (i := 5) hX1 rfl dL_law_1782 ?_
  refine z0T_ne dL_law_1784 rfl _ hX1 (upd (upd L.1 5 v) 6 b, L.2) [true, true, true, true, false, false, false] [] h3 v (fun _ => kk2) (fun q => ?_)
  have hv0 : v = 0 := by
    unfold zNE at q
    exact Decidable.not_not.mp (of_decide_eq_false q)
  refine zw_aload_n (i := 3) hX1 rfl rfl dL_law_1787 ?_
  dsimp only
  rw [hL3]
  refine zw_const hX1 0 rfl dL_law_1788 ?_
  refine zw_lald hX1 dL_law_1789 ho rfl ?_
  refine zw_iload (i := 6) hX1 rfl dL_law_1790 ?_
  refine zw_i2l hX1 dL_law_1792 ?_
  refine zw_lcmp hX1 dL_law_1793 ?_
  refine z0T_eq dL_law_1794 rfl _ hX1 (upd (upd L.1 5 v) 6 b, L.2) [true, true, true, true, false, false, false] [] h3 _ (fun _ => kk2) (fun q => absurd q ?_)
  show ¬ zEQ (lg_cmp (h3.1 86 0).toInt64 b.toInt64) 0 = false
  rw [hv hv0, (lg_cmp_eq _ _).mpr rfl]
  decide
theorem C_row {p : Program} {l : Launch} {e : Env} {R : Room} {s : State} {m : MethodId} {args : Array Value} {below : List Frame} {meth : Method} {c : Code} {Q : State → Prop} {A : Nat → Prop} {G : ZG} {cC cS : Nat} {L : Fr} {h h1 h2 h3 : Hp} {xs : Nat → Int32} {N i : Nat} {v b : Int32} (hX : zx RX0 code 7 300 false (p, l, e, R, s, m, args, below, meth, c, Q, A, G, cC + 1, cS + 6)) (hX1 : zx RX0 code 7 300 false (p, l, e, R, s, m, args, below, meth, c, Q, A, G, cC, cS)) (hS : zsc (p, l, e, R, s, m, args, below, meth, c, Q, A, G, cC + 1, cS + 6) N xs) (hl : l.stackTraces = false) (hN : N ≤ 320) (hL0 : L.2 0 = some 1000012) (hL1 : L.2 1 = some 0) (hL2 : L.2 2 = some 60) (hL3 : L.2 3 = some 86) (hi : L.1 4 = Int32.ofNat i) (hiN : i + 5 ≤ N) (hwf : zwf h) (hlen : 87 ≤ h.2.2.length) (e1 : zhm B_X1_row [.ref 0, .int (xs (i + 1))] 0 86 h = some (v, h1)) (e2 : F_X3_row [.ref 60, .int (xs (i + 1))] h1 = some (.int b, h2)) (e3 : F_X3_thrown [.ref 60] h2 = some (.int v, h3)) (ho : h3.2.2[86]? = some (104, 1)) (hv : v = 0 → h3.1 86 0 = b) (hcap : h3.2.2.length ≤ cC ∧ zsum h3.2.2 ≤ cS) (kk : zw (p, l, e, R, s, m, args, below, meth, c, Q, A, G, cC, cS) 7 2033 (upd (upd L.1 5 v) 6 b, L.2) [true, true, true, true, false] [] h3) : zw (p, l, e, R, s, m, args, below, meth, c, Q, A, G, cC + 1, cS + 6) 7 1977 L [true, true, true, true, false] [] h := by
  have iM := zinvV (cc := code) (nL := 7) (d := 300) (ini := false) lk_X0_269 (Or.inl rfl) (Nat.le_of_ble_eq_true rfl) dL_law_1997
  have iT := zinvV (cc := code) (nL := 7) (d := 300) (ini := false) lk_X0_68 (Or.inl rfl) (Nat.le_of_ble_eq_true rfl) dL_law_2003
  have hle1 : zle h h1 := by
    obtain ⟨-, r, hr, hcase⟩ := zhm_key e1
    have := W_X1_row.1 _ _ _ hr
    rcases hcase with ⟨-, -, -, rfl⟩ | ⟨-, -, rfl⟩
    · exact zle_trans this (zle_eq rfl)
    · exact this
  have hle3 := iT.1 _ _ _ _ e3
  have hle2 := iM.1 _ _ _ _ e2
  have hc3 : zcap (p, l, e, R, s, m, args, below, meth, c, Q, A, G, cC, cS) h3 := hcap
  have hc2 : zcap (p, l, e, R, s, m, args, below, meth, c, Q, A, G, cC, cS) h2 := zcap_le hle3 hc3
  have hc1 : zcap (p, l, e, R, s, m, args, below, meth, c, Q, A, G, cC, cS) h1 := zcap_le hle2 hc2
  have hcm : cC + 1 ≤ 1000000 := hX.2.2.2.2.2.2.2.2.2.2.2.2.1
  refine zw_aload_n (i := 1) hX rfl rfl dL_law_1977 ?_
  rw [hL1]
  refine zw_arg (j := 1) hX hS hN hL0 hi (by omega) rfl rfl (by decide) dL_law_1978 dL_law_1979 dL_law_1981 dL_law_1982 dL_law_1983 (Nat.le_of_ble_eq_true rfl) ?_
  refine zw_aload_n (i := 3) hX rfl rfl dL_law_1984 ?_
  rw [hL3]
  refine zw_callH (as := [.ref 0, .int (xs (i + 1)), .ref 86]) (st := []) (v := v) (h2 := h1) hX (fun ad sz hstr => H_X0_row hl e1 hwf (Or.inl (by omega)) (Or.inl (by omega)) (by have := hc1.1; omega) hstr) hle1 (Nat.le_of_ble_eq_true rfl) (Nat.le_of_ble_eq_true rfl) q1026 q1027 q88 q1028 ⟨by decide, by decide, rfl⟩ dL_law_1985 rfl hc1 (Nat.zero_le _) ?_
  refine zw_istore (i := 5) (ts2 := [true, true, true, true, false, false]) hX1 (Nat.le_of_ble_eq_true rfl) (ztsto_new rfl) dL_law_1988 ?_
  have hi : (upd L.1 5 v) 4 = Int32.ofNat i := by rw [← hi]; rfl
  refine zw_aload_n (i := 2) hX1 rfl rfl dL_law_1990 ?_
  dsimp only
  rw [hL2]
  refine zw_arg (j := 1) hX1 hS hN hL0 hi (by omega) rfl rfl (by decide) dL_law_1991 dL_law_1992 dL_law_1994 dL_law_1995 dL_law_1996 (Nat.le_of_ble_eq_true rfl) ?_
  refine iM.2 _ hX1 (upd L.1 5 v, L.2) [true, true, true, true, false, false] [] h1 h2 [.ref 60, .int (xs (i + 1))] _ e2 rfl hc2 (Nat.zero_le _) ?_
  refine zw_istore (i := 6) (ts2 := [true, true, true, true, false, false, false]) hX1 (Nat.le_of_ble_eq_true rfl) (ztsto_new rfl) dL_law_2000 ?_
  refine zw_aload_n (i := 2) hX1 rfl rfl dL_law_2002 ?_
  dsimp only
  rw [hL2]
  refine iT.2 _ hX1 (upd (upd L.1 5 v) 6 b, L.2) [true, true, true, true, false, false, false] [] h2 h3 [.ref 60] _ e3 rfl hc3 (Nat.zero_le _) ?_
  refine zw_iload (i := 5) hX1 rfl dL_law_2006 ?_
  refine zjT_eq dL_law_2008 rfl _ hX1 (upd (upd L.1 5 v) 6 b, L.2) [true, true, true, true, false, false, false] [] h3 v v (fun _ => ?_) (fun q => absurd q (by unfold zEQ; rw [decide_eq_true rfl]; decide))
  have kk2 : zw (p, l, e, R, s, m, args, below, meth, c, Q, A, G, cC, cS) 7 2030 (upd (upd L.1 5 v) 6 b, L.2) [true, true, true, true, false, false, false] [] h3 := zw_goto hX1 rfl dL_law_2030 (zw_less (ts2 := [true, true, true, true, false]) (ztake (l := [true, true, true, true, false, false, false]) 5) kk)
  refine zw_iload (i := 5) hX1 rfl dL_law_2013 ?_
  refine z0T_ne dL_law_2015 rfl _ hX1 (upd (upd L.1 5 v) 6 b, L.2) [true, true, true, true, false, false, false] [] h3 v (fun _ => kk2) (fun q => ?_)
  have hv0 : v = 0 := by
    unfold zNE at q
    exact Decidable.not_not.mp (of_decide_eq_false q)
  refine zw_aload_n (i := 3) hX1 rfl rfl dL_law_2018 ?_
  dsimp only
  rw [hL3]
  refine zw_const hX1 0 rfl dL_law_2019 ?_
  refine zw_lald hX1 dL_law_2020 ho rfl ?_
  refine zw_iload (i := 6) hX1 rfl dL_law_2021 ?_
  refine zw_i2l hX1 dL_law_2023 ?_
  refine zw_lcmp hX1 dL_law_2024 ?_
  refine z0T_eq dL_law_2025 rfl _ hX1 (upd (upd L.1 5 v) 6 b, L.2) [true, true, true, true, false, false, false] [] h3 _ (fun _ => kk2) (fun q => absurd q ?_)
  show ¬ zEQ (lg_cmp (h3.1 86 0).toInt64 b.toInt64) 0 = false
  rw [hv hv0, (lg_cmp_eq _ _).mpr rfl]
  decide
