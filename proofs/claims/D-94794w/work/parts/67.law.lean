/-! THE LAW, over what is owed of the operations (text: gen/loop.txt; rows by gen/law.py). -/
set_option maxRecDepth 100000
/-- an operation that answers: both sides alike, and the invariant goes on -/
def zopN (Inv : Nat → Hp → Prop) (FS FM : Mth) (n : Nat) : Prop := ∀ k h (as : List Int32), k < 64 → as.length = n → Inv k h → ∃ v h1 h2, FS (.ref 0 :: as.map Value.int) h = some (.int v, h1) ∧ FM (.ref 60 :: as.map Value.int) h1 = some (.int v, h2) ∧ Inv (k + 1) h2
/-- one that may throw -/
def zopT (Inv : Nat → Hp → Prop) (bS : ZS) (FM : Mth) (n : Nat) : Prop := ∀ k h (as : List Int32), k < 64 → as.length = n → Inv k h → ∃ v b h1 h2 h3, zhm bS (.ref 0 :: as.map Value.int) 0 86 h = some (v, h1) ∧ FM (.ref 60 :: as.map Value.int) h1 = some (.int b, h2) ∧ F_X3_thrown [.ref 60] h2 = some (.int v, h3) ∧ (v = 0 → h3.1 86 0 = b) ∧ Inv (k + 1) h3
def zInvOk (Inv : Nat → Hp → Prop) : Prop := ∀ k h, Inv k h → zwf h ∧ 87 ≤ h.2.2.length ∧ h.2.2.length ≤ 1000 + 500 * k ∧ zsum h.2.2 ≤ 20000 + 5000 * k ∧ h.2.2[86]? = some (104, 1)
def zopAll (Inv : Nat → Hp → Prop) : Prop :=
  zopN Inv F_X1_sign F_X3_sign 1 ∧
  zopN Inv F_X1_end F_X3_end 1 ∧
  zopN Inv F_X1_town F_X3_town 0 ∧
  zopN Inv F_X1_weather F_X3_weather 0 ∧
  zopN Inv F_X1_rule F_X3_rule 0 ∧
  zopN Inv F_X1_winter F_X3_winter 2 ∧
  zopN Inv F_X1_falls F_X3_falls 1 ∧
  zopT Inv B_X1_of F_X3_of 2 ∧
  zopN Inv F_X1_set F_X3_set 3 ∧
  zopN Inv F_X1_sheet F_X3_sheet 4 ∧
  zopN Inv F_X1_above F_X3_above 1 ∧
  zopN Inv F_X1_debt F_X3_debt 2 ∧
  zopN Inv F_X1_day F_X3_day 0 ∧
  zopN Inv F_X1_days F_X3_days 1 ∧
  zopN Inv F_X1_sweep F_X3_sweep 2 ∧
  zopN Inv F_X1_clear F_X3_clear 2 ∧
  zopN Inv F_X1_wind F_X3_wind 2 ∧
  zopN Inv F_X1_loose F_X3_loose 2 ∧
  zopN Inv F_X1_work F_X3_work 3 ∧
  zopN Inv F_X1_night F_X3_night 0 ∧
  zopN Inv F_X1_undo F_X3_undo 0 ∧
  zopN Inv F_X1_ring F_X3_ring 0 ∧
  zopN Inv F_X1_cancel F_X3_cancel 0 ∧
  zopN Inv F_X1_rings F_X3_rings 0 ∧
  zopT Inv B_X1_net F_X3_net 1 ∧
  zopN Inv F_X1_least F_X3_least 0 ∧
  zopN Inv F_X1_even F_X3_even 0 ∧
  zopN Inv F_X1_debtor F_X3_debtor 0 ∧
  zopN Inv F_X1_june F_X3_june 0 ∧
  zopN Inv F_X1_hay F_X3_hay 1 ∧
  zopN Inv F_X1_works F_X3_works 2 ∧
  zopN Inv F_X1_summer F_X3_summer 0 ∧
  zopN Inv F_X1_ahead F_X3_ahead 1 ∧
  zopN Inv F_X1_slides F_X3_slides 1 ∧
  zopN Inv F_X1_later F_X3_later 2 ∧
  zopN Inv F_X1_deepest F_X3_deepest 2 ∧
  zopN Inv F_X1_lord F_X3_lord 1 ∧
  zopN Inv F_X1_worst F_X3_worst 1 ∧
  zopN Inv F_X1_melt F_X3_melt 0 ∧
  zopN Inv F_X1_lazy F_X3_lazy 1 ∧
  zopN Inv F_X1_dig F_X3_dig 3 ∧
  zopT Inv B_X1_bare F_X3_bare 2 ∧
  zopN Inv F_X1_best F_X3_best 2 ∧
  zopN Inv F_X1_own F_X3_own 3 ∧
  zopN Inv F_X1_better F_X3_better 2 ∧
  zopN Inv F_X1_rests F_X3_rests 2 ∧
  zopN Inv F_X1_rough F_X3_rough 2 ∧
  zopN Inv F_X1_turned F_X3_turned 1 ∧
  zopN Inv F_X1_needs F_X3_needs 2 ∧
  zopT Inv B_X1_premium F_X3_premium 1 ∧
  zopN Inv F_X1_track F_X3_track 2 ∧
  zopN Inv F_X1_thaw F_X3_thaw 0 ∧
  zopN Inv F_X1_suspects F_X3_suspects 1 ∧
  zopN Inv F_X1_gang F_X3_gang 1 ∧
  zopN Inv F_X1_keep F_X3_keep 1 ∧
  zopN Inv F_X1_again F_X3_again 1 ∧
  zopN Inv F_X1_count F_X3_count 1 ∧
  zopT Inv B_X1_row F_X3_row 1
theorem nl_X0_8 : zlkN RX0 8 0 52 := ⟨RX1, TX1, zcls0, by decide +kernel, q109, q110, q89⟩
theorem nl_X0_29 : zlkN RX0 29 2 52 := ⟨RX3, TX3, zcls2, by decide +kernel, q1033, q1034, q91⟩
theorem lk_X0_28 : zlkI RX0 28 0 2 F_X1_init := ⟨yX1_init, cX1_init, 1, M_X1_init, (Nat.le_of_ble_eq_true rfl), rfl, (Or.inl q111), q112, q89, q113, by decide, by decide, rfl⟩
theorem lk_X0_31 : zlkI RX0 31 0 1 F_X3_init := ⟨yX3_init, cX3_init, 1, M_X3_init, (Nat.le_of_ble_eq_true rfl), rfl, (Or.inl q1035), q1036, q91, q1037, by decide, by decide, rfl⟩
theorem zlk_all {P : Nat → Prop} {t : Nat} {v : Int32} (h0 : P t) : ∀ {vs : List (Int32 × Nat)}, (∀ q ∈ vs, P q.2) → P (zlk vs t v) := by
  intro vs
  induction vs with
  | nil => intro _; exact h0
  | cons q r ih =>
    intro h
    unfold zlk
    by_cases e : v = q.1
    · rw [if_pos e]
      exact h q List.mem_cons_self
    · rw [if_neg e]
      exact ih (fun z hz => h z (List.mem_cons_of_mem _ hz))
theorem zx_cap {own : String} {cc : ByteArray} {nL d : Nat} {ini : Bool} {p : Program} {l : Launch} {e : Env} {R : Room} {s : State} {m : MethodId} {args : Array Value} {below : List Frame} {meth : Method} {c : Code} {Q : State → Prop} {A : Nat → Prop} {G : ZG} {cC cS : Nat} (hX : zx own cc nL d ini (p, l, e, R, s, m, args, below, meth, c, Q, A, G, cC + 1, cS + 6)) : zx own cc nL d ini (p, l, e, R, s, m, args, below, meth, c, Q, A, G, cC, cS) := by
  obtain ⟨a1, a2, a3, a4, a5, a6, a7, a8, a9, a10, a11, a12, a13, a14, a15⟩ := hX
  exact ⟨a1, a2, a3, a4, a5, a6, a7, a8, a9, a10, a11, a12, by omega, a14, a15⟩
theorem zsub5 {N a : Nat} (hN : N ≤ 320) (ha : a ≤ 400) : (Int32.ofNat N - 5 < Int32.ofNat a) ↔ N < a + 5 := by
  rw [Int32.lt_iff_toInt_lt, Int32.toInt_sub, Int32.toInt_ofNat_of_lt (by omega), Int32.toInt_ofNat_of_lt (by omega)]
  have e5 : (5 : Int32).toInt = 5 := rfl
  rw [e5, Int.bmod_eq_of_le (by omega) (by omega)]
  omega
abbrev zlts : List Bool := [true, true, true, true, false]
theorem law_loop {Inv : Nat → Hp → Prop} (hI : zInvOk Inv) (hops : zopAll Inv) (hmono : ∀ k h, Inv k h → Inv (k + 1) h) {p : Program} {l : Launch} {e : Env} {R : Room} {s : State} {m : MethodId} {args : Array Value} {below : List Frame} {meth : Method} {c : Code} {Q : State → Prop} {A : Nat → Prop} {G : ZG} {N : Nat} {xs : Nat → Int32} (hl : l.stackTraces = false) (hN : N ≤ 320) (hsc : ∀ cC cS, zsc (p, l, e, R, s, m, args, below, meth, c, Q, A, G, cC, cS) N xs)
    (hend : ∀ cC cS L h, zx RX0 code 7 300 false (p, l, e, R, s, m, args, below, meth, c, Q, A, G, cC, cS) → zw (p, l, e, R, s, m, args, below, meth, c, Q, A, G, cC, cS) 7 2039 L zlts [] h) :
    ∀ r k cC cS L h, k + r = 65 → zx RX0 code 7 300 false (p, l, e, R, s, m, args, below, meth, c, Q, A, G, cC, cS) → 40000 + r ≤ cC → 400000 + 6 * r ≤ cS → Inv k h → L.2 0 = some 1000012 → L.2 1 = some 0 → L.2 2 = some 60 → L.2 3 = some 86 → L.1 4 = Int32.ofNat (5 * k) → zw (p, l, e, R, s, m, args, below, meth, c, Q, A, G, cC, cS) 7 23 L zlts [] h := by
  intro r
  induction r with
  | zero =>
    intro k cC cS L h hkr hX hcC hcS hInv hL0 hL1 hL2 hL3 hi
    refine zw_iload (i := 4) hX rfl dL_law_23 ?_
    refine zw_aload_n (i := 0) hX rfl rfl dL_law_25 ?_
    rw [hL0]
    refine zw_sn hX (hsc _ _) dL_law_26 ?_
    refine zw_const hX 5 (rfl : Int32.ofInt 5 = 5) dL_law_27 ?_
    refine zop_isub dL_law_28 _ hX L zlts _ h _ _ (Nat.le_of_ble_eq_true rfl) ?_
    refine zjT_gt dL_law_29 rfl _ hX L zlts [] h _ _ (fun _ => hend _ _ _ _ hX) (fun q => absurd q ?_)
    have e1 : Int32.ofNat N - 5 < L.1 4 := by
      rw [hi]
      exact (zsub5 hN (by omega)).mpr (by omega)
    show ¬ decide (Int32.ofNat N - 5 < L.1 4) = false
    rw [decide_eq_true e1]
    decide
  | succ r ih =>
    intro k cC cS L h hkr hX hcC hcS hInv hL0 hL1 hL2 hL3 hi
    obtain ⟨cC, rfl⟩ : ∃ c', cC = c' + 1 := ⟨cC - 1, by omega⟩
    obtain ⟨cS, rfl⟩ : ∃ c', cS = c' + 6 := ⟨cS - 6, by omega⟩
    refine zw_iload (i := 4) hX rfl dL_law_23 ?_
    refine zw_aload_n (i := 0) hX rfl rfl dL_law_25 ?_
    rw [hL0]
    refine zw_sn hX (hsc _ _) dL_law_26 ?_
    refine zw_const hX 5 (rfl : Int32.ofInt 5 = 5) dL_law_27 ?_
    refine zop_isub dL_law_28 _ hX L zlts _ h _ _ (Nat.le_of_ble_eq_true rfl) ?_
    refine zjT_gt dL_law_29 rfl _ hX L zlts [] h _ _ (fun _ => hend _ _ _ _ hX) (fun q => ?_)
    have hiN : 5 * k + 5 ≤ N := by
      have q2 : ¬ (Int32.ofNat N - 5 < L.1 4) := of_decide_eq_false q
      rw [hi] at q2
      have q3 : ¬ (N < 5 * k + 5) := fun z => q2 ((zsub5 hN (by omega)).mpr z)
      omega
    have hk : k < 64 := by omega
    have nx : ∀ cC cS (L2 : Fr) (h2 : Hp), zx RX0 code 7 300 false (p, l, e, R, s, m, args, below, meth, c, Q, A, G, cC, cS) → 40000 + r ≤ cC → 400000 + 6 * r ≤ cS → Inv (k + 1) h2 → L2.2 0 = some 1000012 → L2.2 1 = some 0 → L2.2 2 = some 60 → L2.2 3 = some 86 → L2.1 4 = Int32.ofNat (5 * k) → zw (p, l, e, R, s, m, args, below, meth, c, Q, A, G, cC, cS) 7 2033 L2 zlts [] h2 := by
      intro cC cS L2 h2 hX2 hc1 hc2 hI2 g0 g1 g2 g3 g4
      refine zw_iinc (i := 4) (n := 5) hX2 (Nat.le_of_ble_eq_true rfl) rfl (rfl : Int32.ofInt 5 = Int32.ofNat 5) dL_law_2033 ?_
      refine zw_goto hX2 rfl dL_law_2036 ?_
      refine ih (k + 1) cC cS (upd L2.1 4 (L2.1 4 + Int32.ofNat 5), L2.2) h2 (by omega) hX2 hc1 hc2 hI2 g0 g1 g2 g3 ?_
      show L2.1 4 + Int32.ofNat 5 = _
      rw [g4, zi_add]
      congr 1
    have hcap : ∀ h2, Inv (k + 1) h2 → zcap (p, l, e, R, s, m, args, below, meth, c, Q, A, G, cC + 1, cS + 6) h2 := by
      intro h2 hI2
      obtain ⟨-, -, b1, b2, -⟩ := hI _ h2 hI2
      exact ⟨by omega, by omega⟩
    have hcap2 : ∀ h2, Inv (k + 1) h2 → h2.2.2.length ≤ cC ∧ zsum h2.2.2 ≤ cS := by
      intro h2 hI2
      obtain ⟨-, -, b1, b2, -⟩ := hI _ h2 hI2
      exact ⟨by omega, by omega⟩
    refine zw_aload_n (i := 0) hX rfl rfl dL_law_32 ?_
    rw [hL0]
    refine zw_iload (i := 4) hX rfl dL_law_33 ?_
    rw [hi]
    refine zw_sx hX (hsc _ _) (zi_inb (by omega) (by omega)) dL_law_35 ?_
    refine zw_bipush hX 63 (rfl : (Int8.ofInt 63).toInt32 = 63) dL_law_36 ?_
    refine zop_iand dL_law_38 _ hX L zlts _ h _ _ (Nat.le_of_ble_eq_true rfl) ?_
    refine zsw_table (own := RX0) (nL := 7) (d := 300) (ini := false) (vs := [(0, 284), (1, 309), (2, 334), (3, 347), (4, 360), (5, 373), (6, 410), (7, 435), (8, 503), (9, 552), (10, 613), (11, 638), (12, 675), (13, 688), (14, 713), (15, 750), (16, 787), (17, 824), (18, 861), (19, 910), (20, 923), (21, 936), (22, 949), (23, 962), (24, 975), (25, 1031), (26, 1044), (27, 1057), (28, 1070), (29, 1083), (30, 1108), (31, 1145), (32, 1158), (33, 1183), (34, 1208), (35, 1245), (36, 1282), (37, 1307), (38, 1332), (39, 1345), (40, 1370), (41, 1419), (42, 1487), (43, 1524), (44, 1573), (45, 1610), (46, 1647), (47, 1684), (48, 1709), (49, 1746), (50, 1802), (51, 1839), (52, 1852), (53, 1877), (54, 1902), (55, 1927), (56, 1952), (57, 1977)]) (td := 2033) dL_law_39 rfl (by decide +kernel) (by decide +kernel) _ hX L zlts [] h _ ?_
    refine zlk_all (P := fun t => zw (p, l, e, R, s, m, args, below, meth, c, Q, A, G, cC + 1, cS + 6) 7 t L zlts [] h) (nx _ _ L h hX (by omega) (by omega) (hmono k h hInv) hL0 hL1 hL2 hL3 hi) ?_
    intro q hq
    simp only [List.mem_cons, List.not_mem_nil, or_false] at hq
    rcases hq with rfl | rfl | rfl | rfl | rfl | rfl | rfl | rfl | rfl | rfl | rfl | rfl | rfl | rfl | rfl | rfl | rfl | rfl | rfl | rfl | rfl | rfl | rfl | rfl | rfl | rfl | rfl | rfl | rfl | rfl | rfl | rfl | rfl | rfl | rfl | rfl | rfl | rfl | rfl | rfl | rfl | rfl | rfl | rfl | rfl | rfl | rfl | rfl | rfl | rfl | rfl | rfl | rfl | rfl | rfl | rfl | rfl | rfl
    · obtain ⟨v, h1, h2, e1, e2, hI2⟩ := hops.1 k h [xs (5 * k + 1)] hk rfl hInv
      exact C_sign hX (hsc _ _) hN hL0 hL1 hL2 hi hiN e1 e2 (hcap h2 hI2) (nx _ _ L h2 hX (by omega) (by omega) hI2 hL0 hL1 hL2 hL3 hi)
    · obtain ⟨v, h1, h2, e1, e2, hI2⟩ := hops.2.1 k h [xs (5 * k + 1)] hk rfl hInv
      exact C_end hX (hsc _ _) hN hL0 hL1 hL2 hi hiN e1 e2 (hcap h2 hI2) (nx _ _ L h2 hX (by omega) (by omega) hI2 hL0 hL1 hL2 hL3 hi)
    · obtain ⟨v, h1, h2, e1, e2, hI2⟩ := hops.2.2.1 k h [] hk rfl hInv
      exact C_town hX (hsc _ _) hN hL0 hL1 hL2 hi hiN e1 e2 (hcap h2 hI2) (nx _ _ L h2 hX (by omega) (by omega) hI2 hL0 hL1 hL2 hL3 hi)
    · obtain ⟨v, h1, h2, e1, e2, hI2⟩ := hops.2.2.2.1 k h [] hk rfl hInv
      exact C_weather hX (hsc _ _) hN hL0 hL1 hL2 hi hiN e1 e2 (hcap h2 hI2) (nx _ _ L h2 hX (by omega) (by omega) hI2 hL0 hL1 hL2 hL3 hi)
    · obtain ⟨v, h1, h2, e1, e2, hI2⟩ := hops.2.2.2.2.1 k h [] hk rfl hInv
      exact C_rule hX (hsc _ _) hN hL0 hL1 hL2 hi hiN e1 e2 (hcap h2 hI2) (nx _ _ L h2 hX (by omega) (by omega) hI2 hL0 hL1 hL2 hL3 hi)
    · obtain ⟨v, h1, h2, e1, e2, hI2⟩ := hops.2.2.2.2.2.1 k h [xs (5 * k + 1), xs (5 * k + 2)] hk rfl hInv
      exact C_winter hX (hsc _ _) hN hL0 hL1 hL2 hi hiN e1 e2 (hcap h2 hI2) (nx _ _ L h2 hX (by omega) (by omega) hI2 hL0 hL1 hL2 hL3 hi)
    · obtain ⟨v, h1, h2, e1, e2, hI2⟩ := hops.2.2.2.2.2.2.1 k h [xs (5 * k + 1)] hk rfl hInv
      exact C_falls hX (hsc _ _) hN hL0 hL1 hL2 hi hiN e1 e2 (hcap h2 hI2) (nx _ _ L h2 hX (by omega) (by omega) hI2 hL0 hL1 hL2 hL3 hi)
    · obtain ⟨v, b, h1, h2, h3, e1, e2, e3, hv, hI2⟩ := hops.2.2.2.2.2.2.2.1 k h [xs (5 * k + 1), xs (5 * k + 2)] hk rfl hInv
      exact C_of hX (zx_cap hX) (hsc _ _) hl hN hL0 hL1 hL2 hL3 hi hiN (hI k h hInv).1 (hI k h hInv).2.1 e1 e2 e3 (hI _ h3 hI2).2.2.2.2 hv (hcap2 h3 hI2) (nx _ _ (upd (upd L.1 5 v) 6 b, L.2) h3 (zx_cap hX) (by omega) (by omega) hI2 hL0 hL1 hL2 hL3 (by show L.1 4 = _; exact hi))
    · obtain ⟨v, h1, h2, e1, e2, hI2⟩ := hops.2.2.2.2.2.2.2.2.1 k h [xs (5 * k + 1), xs (5 * k + 2), xs (5 * k + 3)] hk rfl hInv
      exact C_set hX (hsc _ _) hN hL0 hL1 hL2 hi hiN e1 e2 (hcap h2 hI2) (nx _ _ L h2 hX (by omega) (by omega) hI2 hL0 hL1 hL2 hL3 hi)
    · obtain ⟨v, h1, h2, e1, e2, hI2⟩ := hops.2.2.2.2.2.2.2.2.2.1 k h [xs (5 * k + 1), xs (5 * k + 2), xs (5 * k + 3), xs (5 * k + 4)] hk rfl hInv
      exact C_sheet hX (hsc _ _) hN hL0 hL1 hL2 hi hiN e1 e2 (hcap h2 hI2) (nx _ _ L h2 hX (by omega) (by omega) hI2 hL0 hL1 hL2 hL3 hi)
    · obtain ⟨v, h1, h2, e1, e2, hI2⟩ := hops.2.2.2.2.2.2.2.2.2.2.1 k h [xs (5 * k + 1)] hk rfl hInv
      exact C_above hX (hsc _ _) hN hL0 hL1 hL2 hi hiN e1 e2 (hcap h2 hI2) (nx _ _ L h2 hX (by omega) (by omega) hI2 hL0 hL1 hL2 hL3 hi)
    · obtain ⟨v, h1, h2, e1, e2, hI2⟩ := hops.2.2.2.2.2.2.2.2.2.2.2.1 k h [xs (5 * k + 1), xs (5 * k + 2)] hk rfl hInv
      exact C_debt hX (hsc _ _) hN hL0 hL1 hL2 hi hiN e1 e2 (hcap h2 hI2) (nx _ _ L h2 hX (by omega) (by omega) hI2 hL0 hL1 hL2 hL3 hi)
    · obtain ⟨v, h1, h2, e1, e2, hI2⟩ := hops.2.2.2.2.2.2.2.2.2.2.2.2.1 k h [] hk rfl hInv
      exact C_day hX (hsc _ _) hN hL0 hL1 hL2 hi hiN e1 e2 (hcap h2 hI2) (nx _ _ L h2 hX (by omega) (by omega) hI2 hL0 hL1 hL2 hL3 hi)
    · obtain ⟨v, h1, h2, e1, e2, hI2⟩ := hops.2.2.2.2.2.2.2.2.2.2.2.2.2.1 k h [xs (5 * k + 1)] hk rfl hInv
      exact C_days hX (hsc _ _) hN hL0 hL1 hL2 hi hiN e1 e2 (hcap h2 hI2) (nx _ _ L h2 hX (by omega) (by omega) hI2 hL0 hL1 hL2 hL3 hi)
    · obtain ⟨v, h1, h2, e1, e2, hI2⟩ := hops.2.2.2.2.2.2.2.2.2.2.2.2.2.2.1 k h [xs (5 * k + 1), xs (5 * k + 2)] hk rfl hInv
      exact C_sweep hX (hsc _ _) hN hL0 hL1 hL2 hi hiN e1 e2 (hcap h2 hI2) (nx _ _ L h2 hX (by omega) (by omega) hI2 hL0 hL1 hL2 hL3 hi)
    · obtain ⟨v, h1, h2, e1, e2, hI2⟩ := hops.2.2.2.2.2.2.2.2.2.2.2.2.2.2.2.1 k h [xs (5 * k + 1), xs (5 * k + 2)] hk rfl hInv
      exact C_clear hX (hsc _ _) hN hL0 hL1 hL2 hi hiN e1 e2 (hcap h2 hI2) (nx _ _ L h2 hX (by omega) (by omega) hI2 hL0 hL1 hL2 hL3 hi)
    · obtain ⟨v, h1, h2, e1, e2, hI2⟩ := hops.2.2.2.2.2.2.2.2.2.2.2.2.2.2.2.2.1 k h [xs (5 * k + 1), xs (5 * k + 2)] hk rfl hInv
      exact C_wind hX (hsc _ _) hN hL0 hL1 hL2 hi hiN e1 e2 (hcap h2 hI2) (nx _ _ L h2 hX (by omega) (by omega) hI2 hL0 hL1 hL2 hL3 hi)
    · obtain ⟨v, h1, h2, e1, e2, hI2⟩ := hops.2.2.2.2.2.2.2.2.2.2.2.2.2.2.2.2.2.1 k h [xs (5 * k + 1), xs (5 * k + 2)] hk rfl hInv
      exact C_loose hX (hsc _ _) hN hL0 hL1 hL2 hi hiN e1 e2 (hcap h2 hI2) (nx _ _ L h2 hX (by omega) (by omega) hI2 hL0 hL1 hL2 hL3 hi)
    · obtain ⟨v, h1, h2, e1, e2, hI2⟩ := hops.2.2.2.2.2.2.2.2.2.2.2.2.2.2.2.2.2.2.1 k h [xs (5 * k + 1), xs (5 * k + 2), xs (5 * k + 3)] hk rfl hInv
      exact C_work hX (hsc _ _) hN hL0 hL1 hL2 hi hiN e1 e2 (hcap h2 hI2) (nx _ _ L h2 hX (by omega) (by omega) hI2 hL0 hL1 hL2 hL3 hi)
    · obtain ⟨v, h1, h2, e1, e2, hI2⟩ := hops.2.2.2.2.2.2.2.2.2.2.2.2.2.2.2.2.2.2.2.1 k h [] hk rfl hInv
      exact C_night hX (hsc _ _) hN hL0 hL1 hL2 hi hiN e1 e2 (hcap h2 hI2) (nx _ _ L h2 hX (by omega) (by omega) hI2 hL0 hL1 hL2 hL3 hi)
    · obtain ⟨v, h1, h2, e1, e2, hI2⟩ := hops.2.2.2.2.2.2.2.2.2.2.2.2.2.2.2.2.2.2.2.2.1 k h [] hk rfl hInv
      exact C_undo hX (hsc _ _) hN hL0 hL1 hL2 hi hiN e1 e2 (hcap h2 hI2) (nx _ _ L h2 hX (by omega) (by omega) hI2 hL0 hL1 hL2 hL3 hi)
    · obtain ⟨v, h1, h2, e1, e2, hI2⟩ := hops.2.2.2.2.2.2.2.2.2.2.2.2.2.2.2.2.2.2.2.2.2.1 k h [] hk rfl hInv
      exact C_ring hX (hsc _ _) hN hL0 hL1 hL2 hi hiN e1 e2 (hcap h2 hI2) (nx _ _ L h2 hX (by omega) (by omega) hI2 hL0 hL1 hL2 hL3 hi)
    · obtain ⟨v, h1, h2, e1, e2, hI2⟩ := hops.2.2.2.2.2.2.2.2.2.2.2.2.2.2.2.2.2.2.2.2.2.2.1 k h [] hk rfl hInv
      exact C_cancel hX (hsc _ _) hN hL0 hL1 hL2 hi hiN e1 e2 (hcap h2 hI2) (nx _ _ L h2 hX (by omega) (by omega) hI2 hL0 hL1 hL2 hL3 hi)
    · obtain ⟨v, h1, h2, e1, e2, hI2⟩ := hops.2.2.2.2.2.2.2.2.2.2.2.2.2.2.2.2.2.2.2.2.2.2.2.1 k h [] hk rfl hInv
      exact C_rings hX (hsc _ _) hN hL0 hL1 hL2 hi hiN e1 e2 (hcap h2 hI2) (nx _ _ L h2 hX (by omega) (by omega) hI2 hL0 hL1 hL2 hL3 hi)
    · obtain ⟨v, b, h1, h2, h3, e1, e2, e3, hv, hI2⟩ := hops.2.2.2.2.2.2.2.2.2.2.2.2.2.2.2.2.2.2.2.2.2.2.2.2.1 k h [xs (5 * k + 1)] hk rfl hInv
      exact C_net hX (zx_cap hX) (hsc _ _) hl hN hL0 hL1 hL2 hL3 hi hiN (hI k h hInv).1 (hI k h hInv).2.1 e1 e2 e3 (hI _ h3 hI2).2.2.2.2 hv (hcap2 h3 hI2) (nx _ _ (upd (upd L.1 5 v) 6 b, L.2) h3 (zx_cap hX) (by omega) (by omega) hI2 hL0 hL1 hL2 hL3 (by show L.1 4 = _; exact hi))
    · obtain ⟨v, h1, h2, e1, e2, hI2⟩ := hops.2.2.2.2.2.2.2.2.2.2.2.2.2.2.2.2.2.2.2.2.2.2.2.2.2.1 k h [] hk rfl hInv
      exact C_least hX (hsc _ _) hN hL0 hL1 hL2 hi hiN e1 e2 (hcap h2 hI2) (nx _ _ L h2 hX (by omega) (by omega) hI2 hL0 hL1 hL2 hL3 hi)
    · obtain ⟨v, h1, h2, e1, e2, hI2⟩ := hops.2.2.2.2.2.2.2.2.2.2.2.2.2.2.2.2.2.2.2.2.2.2.2.2.2.2.1 k h [] hk rfl hInv
      exact C_even hX (hsc _ _) hN hL0 hL1 hL2 hi hiN e1 e2 (hcap h2 hI2) (nx _ _ L h2 hX (by omega) (by omega) hI2 hL0 hL1 hL2 hL3 hi)
    · obtain ⟨v, h1, h2, e1, e2, hI2⟩ := hops.2.2.2.2.2.2.2.2.2.2.2.2.2.2.2.2.2.2.2.2.2.2.2.2.2.2.2.1 k h [] hk rfl hInv
      exact C_debtor hX (hsc _ _) hN hL0 hL1 hL2 hi hiN e1 e2 (hcap h2 hI2) (nx _ _ L h2 hX (by omega) (by omega) hI2 hL0 hL1 hL2 hL3 hi)
    · obtain ⟨v, h1, h2, e1, e2, hI2⟩ := hops.2.2.2.2.2.2.2.2.2.2.2.2.2.2.2.2.2.2.2.2.2.2.2.2.2.2.2.2.1 k h [] hk rfl hInv
      exact C_june hX (hsc _ _) hN hL0 hL1 hL2 hi hiN e1 e2 (hcap h2 hI2) (nx _ _ L h2 hX (by omega) (by omega) hI2 hL0 hL1 hL2 hL3 hi)
    · obtain ⟨v, h1, h2, e1, e2, hI2⟩ := hops.2.2.2.2.2.2.2.2.2.2.2.2.2.2.2.2.2.2.2.2.2.2.2.2.2.2.2.2.2.1 k h [xs (5 * k + 1)] hk rfl hInv
      exact C_hay hX (hsc _ _) hN hL0 hL1 hL2 hi hiN e1 e2 (hcap h2 hI2) (nx _ _ L h2 hX (by omega) (by omega) hI2 hL0 hL1 hL2 hL3 hi)
    · obtain ⟨v, h1, h2, e1, e2, hI2⟩ := hops.2.2.2.2.2.2.2.2.2.2.2.2.2.2.2.2.2.2.2.2.2.2.2.2.2.2.2.2.2.2.1 k h [xs (5 * k + 1), xs (5 * k + 2)] hk rfl hInv
      exact C_works hX (hsc _ _) hN hL0 hL1 hL2 hi hiN e1 e2 (hcap h2 hI2) (nx _ _ L h2 hX (by omega) (by omega) hI2 hL0 hL1 hL2 hL3 hi)
    · obtain ⟨v, h1, h2, e1, e2, hI2⟩ := hops.2.2.2.2.2.2.2.2.2.2.2.2.2.2.2.2.2.2.2.2.2.2.2.2.2.2.2.2.2.2.2.1 k h [] hk rfl hInv
      exact C_summer hX (hsc _ _) hN hL0 hL1 hL2 hi hiN e1 e2 (hcap h2 hI2) (nx _ _ L h2 hX (by omega) (by omega) hI2 hL0 hL1 hL2 hL3 hi)
    · obtain ⟨v, h1, h2, e1, e2, hI2⟩ := hops.2.2.2.2.2.2.2.2.2.2.2.2.2.2.2.2.2.2.2.2.2.2.2.2.2.2.2.2.2.2.2.2.1 k h [xs (5 * k + 1)] hk rfl hInv
      exact C_ahead hX (hsc _ _) hN hL0 hL1 hL2 hi hiN e1 e2 (hcap h2 hI2) (nx _ _ L h2 hX (by omega) (by omega) hI2 hL0 hL1 hL2 hL3 hi)
    · obtain ⟨v, h1, h2, e1, e2, hI2⟩ := hops.2.2.2.2.2.2.2.2.2.2.2.2.2.2.2.2.2.2.2.2.2.2.2.2.2.2.2.2.2.2.2.2.2.1 k h [xs (5 * k + 1)] hk rfl hInv
      exact C_slides hX (hsc _ _) hN hL0 hL1 hL2 hi hiN e1 e2 (hcap h2 hI2) (nx _ _ L h2 hX (by omega) (by omega) hI2 hL0 hL1 hL2 hL3 hi)
    · obtain ⟨v, h1, h2, e1, e2, hI2⟩ := hops.2.2.2.2.2.2.2.2.2.2.2.2.2.2.2.2.2.2.2.2.2.2.2.2.2.2.2.2.2.2.2.2.2.2.1 k h [xs (5 * k + 1), xs (5 * k + 2)] hk rfl hInv
      exact C_later hX (hsc _ _) hN hL0 hL1 hL2 hi hiN e1 e2 (hcap h2 hI2) (nx _ _ L h2 hX (by omega) (by omega) hI2 hL0 hL1 hL2 hL3 hi)
    · obtain ⟨v, h1, h2, e1, e2, hI2⟩ := hops.2.2.2.2.2.2.2.2.2.2.2.2.2.2.2.2.2.2.2.2.2.2.2.2.2.2.2.2.2.2.2.2.2.2.2.1 k h [xs (5 * k + 1), xs (5 * k + 2)] hk rfl hInv
      exact C_deepest hX (hsc _ _) hN hL0 hL1 hL2 hi hiN e1 e2 (hcap h2 hI2) (nx _ _ L h2 hX (by omega) (by omega) hI2 hL0 hL1 hL2 hL3 hi)
    · obtain ⟨v, h1, h2, e1, e2, hI2⟩ := hops.2.2.2.2.2.2.2.2.2.2.2.2.2.2.2.2.2.2.2.2.2.2.2.2.2.2.2.2.2.2.2.2.2.2.2.2.1 k h [xs (5 * k + 1)] hk rfl hInv
      exact C_lord hX (hsc _ _) hN hL0 hL1 hL2 hi hiN e1 e2 (hcap h2 hI2) (nx _ _ L h2 hX (by omega) (by omega) hI2 hL0 hL1 hL2 hL3 hi)
    · obtain ⟨v, h1, h2, e1, e2, hI2⟩ := hops.2.2.2.2.2.2.2.2.2.2.2.2.2.2.2.2.2.2.2.2.2.2.2.2.2.2.2.2.2.2.2.2.2.2.2.2.2.1 k h [xs (5 * k + 1)] hk rfl hInv
      exact C_worst hX (hsc _ _) hN hL0 hL1 hL2 hi hiN e1 e2 (hcap h2 hI2) (nx _ _ L h2 hX (by omega) (by omega) hI2 hL0 hL1 hL2 hL3 hi)
    · obtain ⟨v, h1, h2, e1, e2, hI2⟩ := hops.2.2.2.2.2.2.2.2.2.2.2.2.2.2.2.2.2.2.2.2.2.2.2.2.2.2.2.2.2.2.2.2.2.2.2.2.2.2.1 k h [] hk rfl hInv
      exact C_melt hX (hsc _ _) hN hL0 hL1 hL2 hi hiN e1 e2 (hcap h2 hI2) (nx _ _ L h2 hX (by omega) (by omega) hI2 hL0 hL1 hL2 hL3 hi)
    · obtain ⟨v, h1, h2, e1, e2, hI2⟩ := hops.2.2.2.2.2.2.2.2.2.2.2.2.2.2.2.2.2.2.2.2.2.2.2.2.2.2.2.2.2.2.2.2.2.2.2.2.2.2.2.1 k h [xs (5 * k + 1)] hk rfl hInv
      exact C_lazy hX (hsc _ _) hN hL0 hL1 hL2 hi hiN e1 e2 (hcap h2 hI2) (nx _ _ L h2 hX (by omega) (by omega) hI2 hL0 hL1 hL2 hL3 hi)
    · obtain ⟨v, h1, h2, e1, e2, hI2⟩ := hops.2.2.2.2.2.2.2.2.2.2.2.2.2.2.2.2.2.2.2.2.2.2.2.2.2.2.2.2.2.2.2.2.2.2.2.2.2.2.2.2.1 k h [xs (5 * k + 1), xs (5 * k + 2), xs (5 * k + 3)] hk rfl hInv
      exact C_dig hX (hsc _ _) hN hL0 hL1 hL2 hi hiN e1 e2 (hcap h2 hI2) (nx _ _ L h2 hX (by omega) (by omega) hI2 hL0 hL1 hL2 hL3 hi)
    · obtain ⟨v, b, h1, h2, h3, e1, e2, e3, hv, hI2⟩ := hops.2.2.2.2.2.2.2.2.2.2.2.2.2.2.2.2.2.2.2.2.2.2.2.2.2.2.2.2.2.2.2.2.2.2.2.2.2.2.2.2.2.1 k h [xs (5 * k + 1), xs (5 * k + 2)] hk rfl hInv
      exact C_bare hX (zx_cap hX) (hsc _ _) hl hN hL0 hL1 hL2 hL3 hi hiN (hI k h hInv).1 (hI k h hInv).2.1 e1 e2 e3 (hI _ h3 hI2).2.2.2.2 hv (hcap2 h3 hI2) (nx _ _ (upd (upd L.1 5 v) 6 b, L.2) h3 (zx_cap hX) (by omega) (by omega) hI2 hL0 hL1 hL2 hL3 (by show L.1 4 = _; exact hi))
    · obtain ⟨v, h1, h2, e1, e2, hI2⟩ := hops.2.2.2.2.2.2.2.2.2.2.2.2.2.2.2.2.2.2.2.2.2.2.2.2.2.2.2.2.2.2.2.2.2.2.2.2.2.2.2.2.2.2.1 k h [xs (5 * k + 1), xs (5 * k + 2)] hk rfl hInv
      exact C_best hX (hsc _ _) hN hL0 hL1 hL2 hi hiN e1 e2 (hcap h2 hI2) (nx _ _ L h2 hX (by omega) (by omega) hI2 hL0 hL1 hL2 hL3 hi)
    · obtain ⟨v, h1, h2, e1, e2, hI2⟩ := hops.2.2.2.2.2.2.2.2.2.2.2.2.2.2.2.2.2.2.2.2.2.2.2.2.2.2.2.2.2.2.2.2.2.2.2.2.2.2.2.2.2.2.2.1 k h [xs (5 * k + 1), xs (5 * k + 2), xs (5 * k + 3)] hk rfl hInv
      exact C_own hX (hsc _ _) hN hL0 hL1 hL2 hi hiN e1 e2 (hcap h2 hI2) (nx _ _ L h2 hX (by omega) (by omega) hI2 hL0 hL1 hL2 hL3 hi)
    · obtain ⟨v, h1, h2, e1, e2, hI2⟩ := hops.2.2.2.2.2.2.2.2.2.2.2.2.2.2.2.2.2.2.2.2.2.2.2.2.2.2.2.2.2.2.2.2.2.2.2.2.2.2.2.2.2.2.2.2.1 k h [xs (5 * k + 1), xs (5 * k + 2)] hk rfl hInv
      exact C_better hX (hsc _ _) hN hL0 hL1 hL2 hi hiN e1 e2 (hcap h2 hI2) (nx _ _ L h2 hX (by omega) (by omega) hI2 hL0 hL1 hL2 hL3 hi)
    · obtain ⟨v, h1, h2, e1, e2, hI2⟩ := hops.2.2.2.2.2.2.2.2.2.2.2.2.2.2.2.2.2.2.2.2.2.2.2.2.2.2.2.2.2.2.2.2.2.2.2.2.2.2.2.2.2.2.2.2.2.1 k h [xs (5 * k + 1), xs (5 * k + 2)] hk rfl hInv
      exact C_rests hX (hsc _ _) hN hL0 hL1 hL2 hi hiN e1 e2 (hcap h2 hI2) (nx _ _ L h2 hX (by omega) (by omega) hI2 hL0 hL1 hL2 hL3 hi)
    · obtain ⟨v, h1, h2, e1, e2, hI2⟩ := hops.2.2.2.2.2.2.2.2.2.2.2.2.2.2.2.2.2.2.2.2.2.2.2.2.2.2.2.2.2.2.2.2.2.2.2.2.2.2.2.2.2.2.2.2.2.2.1 k h [xs (5 * k + 1), xs (5 * k + 2)] hk rfl hInv
      exact C_rough hX (hsc _ _) hN hL0 hL1 hL2 hi hiN e1 e2 (hcap h2 hI2) (nx _ _ L h2 hX (by omega) (by omega) hI2 hL0 hL1 hL2 hL3 hi)
    · obtain ⟨v, h1, h2, e1, e2, hI2⟩ := hops.2.2.2.2.2.2.2.2.2.2.2.2.2.2.2.2.2.2.2.2.2.2.2.2.2.2.2.2.2.2.2.2.2.2.2.2.2.2.2.2.2.2.2.2.2.2.2.1 k h [xs (5 * k + 1)] hk rfl hInv
      exact C_turned hX (hsc _ _) hN hL0 hL1 hL2 hi hiN e1 e2 (hcap h2 hI2) (nx _ _ L h2 hX (by omega) (by omega) hI2 hL0 hL1 hL2 hL3 hi)
    · obtain ⟨v, h1, h2, e1, e2, hI2⟩ := hops.2.2.2.2.2.2.2.2.2.2.2.2.2.2.2.2.2.2.2.2.2.2.2.2.2.2.2.2.2.2.2.2.2.2.2.2.2.2.2.2.2.2.2.2.2.2.2.2.1 k h [xs (5 * k + 1), xs (5 * k + 2)] hk rfl hInv
      exact C_needs hX (hsc _ _) hN hL0 hL1 hL2 hi hiN e1 e2 (hcap h2 hI2) (nx _ _ L h2 hX (by omega) (by omega) hI2 hL0 hL1 hL2 hL3 hi)
    · obtain ⟨v, b, h1, h2, h3, e1, e2, e3, hv, hI2⟩ := hops.2.2.2.2.2.2.2.2.2.2.2.2.2.2.2.2.2.2.2.2.2.2.2.2.2.2.2.2.2.2.2.2.2.2.2.2.2.2.2.2.2.2.2.2.2.2.2.2.2.1 k h [xs (5 * k + 1)] hk rfl hInv
      exact C_premium hX (zx_cap hX) (hsc _ _) hl hN hL0 hL1 hL2 hL3 hi hiN (hI k h hInv).1 (hI k h hInv).2.1 e1 e2 e3 (hI _ h3 hI2).2.2.2.2 hv (hcap2 h3 hI2) (nx _ _ (upd (upd L.1 5 v) 6 b, L.2) h3 (zx_cap hX) (by omega) (by omega) hI2 hL0 hL1 hL2 hL3 (by show L.1 4 = _; exact hi))
    · obtain ⟨v, h1, h2, e1, e2, hI2⟩ := hops.2.2.2.2.2.2.2.2.2.2.2.2.2.2.2.2.2.2.2.2.2.2.2.2.2.2.2.2.2.2.2.2.2.2.2.2.2.2.2.2.2.2.2.2.2.2.2.2.2.2.1 k h [xs (5 * k + 1), xs (5 * k + 2)] hk rfl hInv
      exact C_track hX (hsc _ _) hN hL0 hL1 hL2 hi hiN e1 e2 (hcap h2 hI2) (nx _ _ L h2 hX (by omega) (by omega) hI2 hL0 hL1 hL2 hL3 hi)
    · obtain ⟨v, h1, h2, e1, e2, hI2⟩ := hops.2.2.2.2.2.2.2.2.2.2.2.2.2.2.2.2.2.2.2.2.2.2.2.2.2.2.2.2.2.2.2.2.2.2.2.2.2.2.2.2.2.2.2.2.2.2.2.2.2.2.2.1 k h [] hk rfl hInv
      exact C_thaw hX (hsc _ _) hN hL0 hL1 hL2 hi hiN e1 e2 (hcap h2 hI2) (nx _ _ L h2 hX (by omega) (by omega) hI2 hL0 hL1 hL2 hL3 hi)
    · obtain ⟨v, h1, h2, e1, e2, hI2⟩ := hops.2.2.2.2.2.2.2.2.2.2.2.2.2.2.2.2.2.2.2.2.2.2.2.2.2.2.2.2.2.2.2.2.2.2.2.2.2.2.2.2.2.2.2.2.2.2.2.2.2.2.2.2.1 k h [xs (5 * k + 1)] hk rfl hInv
      exact C_suspects hX (hsc _ _) hN hL0 hL1 hL2 hi hiN e1 e2 (hcap h2 hI2) (nx _ _ L h2 hX (by omega) (by omega) hI2 hL0 hL1 hL2 hL3 hi)
    · obtain ⟨v, h1, h2, e1, e2, hI2⟩ := hops.2.2.2.2.2.2.2.2.2.2.2.2.2.2.2.2.2.2.2.2.2.2.2.2.2.2.2.2.2.2.2.2.2.2.2.2.2.2.2.2.2.2.2.2.2.2.2.2.2.2.2.2.2.1 k h [xs (5 * k + 1)] hk rfl hInv
      exact C_gang hX (hsc _ _) hN hL0 hL1 hL2 hi hiN e1 e2 (hcap h2 hI2) (nx _ _ L h2 hX (by omega) (by omega) hI2 hL0 hL1 hL2 hL3 hi)
    · obtain ⟨v, h1, h2, e1, e2, hI2⟩ := hops.2.2.2.2.2.2.2.2.2.2.2.2.2.2.2.2.2.2.2.2.2.2.2.2.2.2.2.2.2.2.2.2.2.2.2.2.2.2.2.2.2.2.2.2.2.2.2.2.2.2.2.2.2.2.1 k h [xs (5 * k + 1)] hk rfl hInv
      exact C_keep hX (hsc _ _) hN hL0 hL1 hL2 hi hiN e1 e2 (hcap h2 hI2) (nx _ _ L h2 hX (by omega) (by omega) hI2 hL0 hL1 hL2 hL3 hi)
    · obtain ⟨v, h1, h2, e1, e2, hI2⟩ := hops.2.2.2.2.2.2.2.2.2.2.2.2.2.2.2.2.2.2.2.2.2.2.2.2.2.2.2.2.2.2.2.2.2.2.2.2.2.2.2.2.2.2.2.2.2.2.2.2.2.2.2.2.2.2.2.1 k h [xs (5 * k + 1)] hk rfl hInv
      exact C_again hX (hsc _ _) hN hL0 hL1 hL2 hi hiN e1 e2 (hcap h2 hI2) (nx _ _ L h2 hX (by omega) (by omega) hI2 hL0 hL1 hL2 hL3 hi)
    · obtain ⟨v, h1, h2, e1, e2, hI2⟩ := hops.2.2.2.2.2.2.2.2.2.2.2.2.2.2.2.2.2.2.2.2.2.2.2.2.2.2.2.2.2.2.2.2.2.2.2.2.2.2.2.2.2.2.2.2.2.2.2.2.2.2.2.2.2.2.2.2.1 k h [xs (5 * k + 1)] hk rfl hInv
      exact C_count hX (hsc _ _) hN hL0 hL1 hL2 hi hiN e1 e2 (hcap h2 hI2) (nx _ _ L h2 hX (by omega) (by omega) hI2 hL0 hL1 hL2 hL3 hi)
    · obtain ⟨v, b, h1, h2, h3, e1, e2, e3, hv, hI2⟩ := hops.2.2.2.2.2.2.2.2.2.2.2.2.2.2.2.2.2.2.2.2.2.2.2.2.2.2.2.2.2.2.2.2.2.2.2.2.2.2.2.2.2.2.2.2.2.2.2.2.2.2.2.2.2.2.2.2.2 k h [xs (5 * k + 1)] hk rfl hInv
      exact C_row hX (zx_cap hX) (hsc _ _) hl hN hL0 hL1 hL2 hL3 hi hiN (hI k h hInv).1 (hI k h hInv).2.1 e1 e2 e3 (hI _ h3 hI2).2.2.2.2 hv (hcap2 h3 hI2) (nx _ _ (upd (upd L.1 5 v) 6 b, L.2) h3 (zx_cap hX) (by omega) (by omega) hI2 hL0 hL1 hL2 hL3 (by show L.1 4 = _; exact hi))
theorem zra_long {s : State} {a b : ClassId} (h1 : va_RA s a .long) (h2 : va_RA s b .long) : a = b := Option.some.inj (h1.symm.trans h2)
theorem zw_newJ {own : String} {cc : ByteArray} {nL d pc : Nat} {ini : Bool} {Z : ZK} {L : Fr} {ts : List Bool} {st : List Value} {h : Hp} {N : Nat} {n : Int32} (hX : zx own cc nL d ini Z) (hn : ¬ n < 0) (hN : n.toNatClampNeg = N) (hb : N ≤ 100000) (hw : Cond.arrayClass .long ∈ lw_all) (hd : decode cc pc = .ok (.newarray .long, 2)) (hcap : zcap Z (zh_new 104 N h)) (kk : zw Z nL (pc + 2) L ts (.ref h.2.2.length :: st) (zh_new 104 N h)) : zw Z nL pc L ts (.int n :: st) h := by
  obtain ⟨p, l, e, R, s, m, args, below, meth, co, Q, A, G, cC, cS⟩ := Z
  intro ad H locs ls cells slots hr hlv hok
  have e1 : (zh_new 104 N h).2.2.length = h.2.2.length + 1 := by show (h.2.2 ++ [(104, N)]).length = _; rw [List.length_append]; rfl
  have e2 : zsum (zh_new 104 N h).2.2 = zsum h.2.2 + N := by show zsum (h.2.2 ++ [(104, N)]) = _; rw [zsum_app]; unfold zsum; simp
  have hcap1 : (zh_new 104 N h).2.2.length ≤ cC := hcap.1
  have hcap2 : zsum (zh_new 104 N h).2.2 ≤ cS := hcap.2
  have hr6 := hr.2.2.2.2.2.1
  have hr7 := hr.2.2.2.2.2.2.1
  refine va_newa (D := G.1) (atype := .long) (ty := .long) (a0 := (N, .inr (.inl (fun _ => 0)))) hX.1 hX.2.1 (hX.2.2.2.2.1 _ hw) rfl hX.2.2.2.2.2.1 hr.1 hr.2.1 hr.2.2.1 hX.2.2.2.2.2.2.2.2.2.1 (fun cA => rfl) hn hN (by show N * 8 ≤ 536870912; omega) (by omega) (by omega) hd fun q cA H1 hK hP hD hS => ?_
  have ec : cA = G.2.1 4 := zra_long (hK.2 5 _ rfl).2 (hX.2.2.2.2.2.1.2 4 _ rfl).2
  subst ec
  exact zw_newk hX.2.2.2.2.2.2.2.2.2.2.2.2.1 hr hlv (zok_tl hok) hcap1 hcap2 (by
    rw [zce_long]
    show _ = Sum.inl (G.2.1 4, N, Sum.inr (Sum.inl (fun j => (zrow h.1 h.2.2.length (fun _ => 0) h.2.2.length j).toInt64)))
    rw [zrow_on]
    rfl) hP hD hS kk
theorem zj_newJ {own : String} {cc : ByteArray} {nL d : Nat} {ini : Bool} {ts : List Bool} {a b k N : Nat} {v : Int32} (h1 : zj_I own cc nL d ini ts k a b (ze_c v)) (hn : ¬ v < 0) (hN : v.toNatClampNeg = N) (hb : N ≤ 100000) (hd : decode cc b = .ok (.newarray .long, 2)) : zj_R own cc nL d ini ts k a (b + 2) (zr_newa 104 N) :=
  ⟨fun L h w h' ee => by cases ee; exact ⟨[(104, N)], rfl⟩, fun Z hX L st h w h' ee hc hk kk => by
    cases ee
    exact h1.2 Z hX L st h _ h rfl (zcap_le ⟨[(104, N)], rfl⟩ hc) hk (zw_newJ hX hn hN hb q1649 hd hc kk)⟩
/-- the law's first rows: both objects, the array of longs, i -/
def B_pro : ZS := zs_seq (zs_r 1 (zr_new 0 52 F_X1_init za_0)) (zs_seq (zs_r 2 (zr_new 2 52 F_X3_init za_0)) (zs_seq (zs_r 3 (zr_newa 104 1)) (zs_i 4 (ze_c 0))))
theorem W_pro : zj_S RX0 code 7 300 false 0 [true] [] zlts 0 23 0 0 B_pro :=
  zj_seq (b := 8) (ts1 := [true, true]) (zj_sr (b := 7) (n := 1) (zj_new (b := 4) (n := 0) nl_X0_8 dL_law_0 dL_law_3 zj_a0 lk_X0_28 (Nat.le_of_ble_eq_true rfl) (Nat.le_of_ble_eq_true rfl) dL_law_4) (zst_astore_n rfl (Nat.le_of_ble_eq_true rfl) (ztsto_new rfl) dL_law_7))
    (zj_seq (b := 16) (ts1 := [true, true, true]) (zj_sr (b := 15) (n := 1) (zj_new (b := 12) (n := 0) nl_X0_29 dL_law_8 dL_law_11 zj_a0 lk_X0_31 (Nat.le_of_ble_eq_true rfl) (Nat.le_of_ble_eq_true rfl) dL_law_12) (zst_astore_n rfl (Nat.le_of_ble_eq_true rfl) (ztsto_new rfl) dL_law_15))
      (zj_seq (b := 20) (ts1 := [true, true, true, true]) (zj_sr (b := 19) (n := 1) (zj_newJ (b := 17) (zj_iconst (1) ki_1 dL_law_16) (by decide) rfl (Nat.le_of_ble_eq_true rfl) dL_law_17) (zst_astore_n rfl (Nat.le_of_ble_eq_true rfl) (ztsto_new rfl) dL_law_19))
        (zj_si (b := 21) (n := 2) (zj_iconst (0) ki_0 dL_law_20) (zst_istore (Nat.le_of_ble_eq_true rfl) (ztsto_new rfl) dL_law_21))))
def zh0 : Hp := (fun _ _ => 0, fun _ _ => none, [])
def zInit (Inv : Nat → Hp → Prop) : Prop := ∃ L h, B_pro (zf [.ref 1000012]) zh0 = some (0, L, h) ∧ L.2 0 = some 1000012 ∧ L.2 1 = some 0 ∧ L.2 2 = some 60 ∧ L.2 3 = some 86 ∧ L.1 4 = 0 ∧ Inv 0 h
