/-! THE LAW'S OWN ROWS: the script, longs compared, calls of helpers. -/
set_option maxRecDepth 100000
/-- the script: N ints xs, where the pure number 1000012 lies -/
def zsc (Z : ZK) (N : Nat) (xs : Nat → Int32) : Prop :=
  match Z with
  | (_, _, _, _, s, _, _, _, _, _, _, A, G, _, _) => va_X (G.2.2.1 12) N xs s s.heap ∧ G.2.2.1 12 < s.heap.size ∧ ¬ A (G.2.2.1 12)
section ZLAW
variable {own : String} {cc : ByteArray} {nL d pc N : Nat} {ini : Bool} {Z : ZK} {L : Fr} {ts : List Bool} {st : List Value} {h : Hp} {xs : Nat → Int32}
theorem zw_sx {j : Int32} (hX : zx own cc nL d ini Z) (hS : zsc Z N xs) (hin : zinb j N = true) (hd : decode cc pc = .ok (.iaload, 1)) (kk : zw Z nL (pc + 1) L ts (.int (xs j.toNatClampNeg) :: st) h) : zw Z nL pc L ts (.int j :: va_rf (some 1000012) :: st) h := by
  obtain ⟨p, l, e, R, s, m, args, below, meth, co, Q, A, G, cC, cS⟩ := Z
  intro ad H locs ls cells slots hr hlv hok
  have e1 : (.int j :: va_rf (some 1000012) :: st).map (zt ad) = .int j :: .ref (G.2.2.1 12) :: st.map (zt ad) := by
    rw [List.map_cons, List.map_cons, zt_rf]
    show Value.int j :: Value.ref (ad 1000012) :: _ = _
    rw [show (1000012 : Nat) = 1000000 + 12 from rfl, hr.2.2.2.2.1 12 (by omega)]
  rw [e1]
  exact va_sld hX.1 hX.2.1 hS.1 hS.2.1 hS.2.2 hr.2.2.1 (zinb_in hin) hd (kk ad H locs ls cells slots hr hlv (zok_i (zok_tl (zok_tl hok))))
theorem zw_sn (hX : zx own cc nL d ini Z) (hS : zsc Z N xs) (hd : decode cc pc = .ok (.arraylength, 1)) (kk : zw Z nL (pc + 1) L ts (.int (Int32.ofNat N) :: st) h) : zw Z nL pc L ts (va_rf (some 1000012) :: st) h := by
  obtain ⟨p, l, e, R, s, m, args, below, meth, co, Q, A, G, cC, cS⟩ := Z
  intro ad H locs ls cells slots hr hlv hok
  have e1 : (va_rf (some 1000012) :: st).map (zt ad) = .ref (G.2.2.1 12) :: st.map (zt ad) := by
    rw [List.map_cons, zt_rf]
    show Value.ref (ad 1000012) :: _ = _
    rw [show (1000012 : Nat) = 1000000 + 12 from rfl, hr.2.2.2.2.1 12 (by omega)]
  rw [e1]
  exact va_slen hX.1 hX.2.1 hS.1 hS.2.1 hS.2.2 hr.2.2.1 hd (kk ad H locs ls cells slots hr hlv (zok_i (zok_tl hok)))
/-- small ints -/
theorem zi_add (a b : Nat) : Int32.ofNat a + Int32.ofNat b = Int32.ofNat (a + b) := (Int32.ofNat_add a b).symm
theorem zi_nat {a : Nat} (h : a < 2147483648) : (Int32.ofNat a).toNatClampNeg = a := Int32.toNatClampNeg_ofNat_of_lt h
theorem zi_nn {a : Nat} (h : a < 2147483648) : ¬ Int32.ofNat a < 0 := by
  intro q
  have := Int32.lt_iff_toInt_lt.mp q
  rw [Int32.toInt_ofNat_of_lt (by omega)] at this
  have e : (0 : Int32).toInt = 0 := rfl
  omega
theorem zi_inb {a n : Nat} (h : a < n) (hn : n < 2147483648) : zinb (Int32.ofNat a) n = true := by
  unfold zinb
  rw [zi_nat (by omega), Bool.and_eq_true, decide_eq_true_eq, decide_eq_true_eq]
  exact ⟨zi_nn (by omega), h⟩
theorem zi_le {a b : Nat} (ha : a < 2147483648) (hb : b < 2147483648) : Int32.ofNat a ≤ Int32.ofNat b ↔ a ≤ b := by
  rw [Int32.le_iff_toInt_le, Int32.toInt_ofNat_of_lt (by omega), Int32.toInt_ofNat_of_lt (by omega)]
  omega
theorem zi_lt {a b : Nat} (ha : a < 2147483648) (hb : b < 2147483648) : Int32.ofNat a < Int32.ofNat b ↔ a < b := by
  rw [Int32.lt_iff_toInt_lt, Int32.toInt_ofNat_of_lt (by omega), Int32.toInt_ofNat_of_lt (by omega)]
  omega
/-- script[i + j] as an argument -/
theorem zw_arg {i j : Nat} {jj : Int} (hX : zx own cc nL d ini Z) (hS : zsc Z N xs) (hN : N ≤ 320) (hL0 : L.2 0 = some 1000012) (hi : L.1 4 = Int32.ofNat i) (hj : i + j < N) (t0 : ts[0]? = some true) (t4 : ts[4]? = some false) (hjj : Int32.ofInt jj = Int32.ofNat j) (d0 : decode cc pc = .ok (.aload_n 0, 1)) (d1 : decode cc (pc + 1) = .ok (.iload 4, 2)) (d2 : decode cc (pc + 3) = .ok (.iconst jj, 1)) (d3 : decode cc (pc + 4) = .ok (.iadd, 1)) (d4 : decode cc (pc + 5) = .ok (.iaload, 1)) (hwt : zwt st ≤ 6) (kk : zw Z nL (pc + 6) L ts (.int (xs (i + j)) :: st) h) : zw Z nL pc L ts st h := by
  refine zw_aload_n (i := 0) hX rfl t0 d0 ?_
  rw [hL0]
  refine zw_iload (i := 4) hX t4 d1 ?_
  rw [hi]
  refine zw_const hX jj hjj d2 ?_
  refine zop_iadd d3 Z hX L ts _ h _ _ (by rw [zcat_r1]; omega) ?_
  show zw Z nL (pc + 5) L ts (.int (Int32.ofNat i + Int32.ofNat j) :: va_rf (some 1000012) :: st) h
  rw [zi_add]
  refine zw_sx hX hS (zi_inb hj (by omega)) d4 ?_
  rw [zi_nat (by omega)]
  exact kk
/-- a helper's call: the room for an exception is gone behind it -/
theorem zw_callH {p : Program} {l : Launch} {e : Env} {R : Room} {s : State} {m : MethodId} {args : Array Value} {below : List Frame} {meth : Method} {c : Code} {Q : State → Prop} {A : Nat → Prop} {G : ZG} {cC cS : Nat} {ix n mL dH : Nat} {y : MethodName} {co : ByteArray} {hh : List (Nat × Nat × Nat × Nat)} {as : List Value} {v : Int32} {h2 : Hp} (hX : zx own cc nL d ini (p, l, e, R, s, m, args, below, meth, c, Q, A, G, cC + 1, cS + 6))
    (hM : ∀ (ad : Nat → Nat) (sz : Nat), (∀ k, k < 13 → ad (1000000 + k) = G.2.2.1 k) → Met l y (wsW_ y co mL (some .int) hh) (zrmH dH h h2) (va_Pc (as.map (zt ad)) (zPre G ad h sz)) (zQ 0 G ad h h2 sz (.int v)) (h2.2.2.length - h.2.2.length + 1) (zsum h2.2.2 - zsum h.2.2 + 6) (va_A (zws G ad h) sz)) (hle : zle h h2) (hd2 : dH + 1 ≤ d) (hmL : mL ≤ 45)
    (w1 : Cond.methodLink own ix y ∈ lw_all) (w2 : Cond.static y ∈ lw_all) (w4 : Cond.initialized y.cls ∈ lw_all) (w5 : Cond.codeWith y co mL (some .int) hh ∈ lw_all) (hpd : y.cls ≠ "java/lang/invoke/MethodHandle" ∧ y.cls ≠ "java/lang/invoke/VarHandle" ∧ (parseMethodDescriptor y.desc).map (fun d => d.parameters.length) = some n) (hd : decode cc pc = .ok (.invokestatic ix, 3))
    (hn : as.length = n) (hcap : h2.2.2.length ≤ cC ∧ zsum h2.2.2 ≤ cS) (hwt : zwt st ≤ 8) (kk : zw (p, l, e, R, s, m, args, below, meth, c, Q, A, G, cC, cS) nL (pc + 3) L ts (.int v :: st) h2) : zw (p, l, e, R, s, m, args, below, meth, c, Q, A, G, cC + 1, cS + 6) nL pc L ts (as.reverse ++ st) h := by
  intro ad H locs ls cells slots hr hlv hok
  have l1 := zle_len hle
  have l2 := zle_sum hle
  have hr0 := hr
  obtain ⟨hP, hD, hS, hwf, hstr, hc1, hc2, hc3, hc4, hag, hn0⟩ := hr
  have r1 : d ≤ R.frames := hX.2.2.2.2.2.2.2.2.2.2.1
  have r2 : 64 * d ≤ R.locals := hX.2.2.2.2.2.2.2.2.2.2.2.1
  have hA0 : ∀ q, s.heap.size ≤ q → A q := hX.2.2.2.2.2.2.2.2.2.1
  have hFA : ∀ q, va_A (zws G ad h) H.size q → A q := by
    intro q hq
    rcases hq with ⟨k, e, hq⟩ | hq
    · exact hD.2 k (q, e) hq
    · exact hA0 q (Nat.le_trans hS.1 hq)
  have hmet := hM ad H.size hstr
  rw [zrev]
  have hrun := vx_runSW (Ts := lw_all) (own := own) (As := as.map (zt ad)) (p := p) (e := e) (below := below) (meth := meth) (locs := locs) (cells := cells) (slots := slots) (g := F0 m pc ls ((as.map (zt ad)).reverse ++ st.map (zt ad))) (rest := st.map (zt ad)) ⟨hX.1, hX.2.1, hX.2.2.1, hX.2.2.2.1, hX.2.2.2.2.1⟩ hmet (vx_cwSW n hX.2.2.2.2.1 (lw_SW w1 w2 w4 w5) rfl rfl rfl hpd ⟨by show dH + 1 ≤ R.frames; omega, by show 8 + (mL + 11) + 64 * dH ≤ R.locals; omega⟩) ⟨zblind, fun U hU hW => ⟨rfl, zstart hX.2.2.2.2.2.1 hX.2.2.2.2.2.2.2.1 hX.2.2.2.2.2.2.2.2.1 hA0 hr0 hU hW⟩⟩ rfl (by rw [List.length_map]; exact hn) hlv.1 rfl (lv_room (by rw [zwt_t]; exact hwt)) hd ⟨by omega, by omega⟩
  unfold zQ at hrun
  rw [if_pos rfl] at hrun
  refine va_calli hrun hS (fun q _ hq => hFA q hq) hFA fun r ad2 t H1 locs1 ht hvm hpost hB hz hk hS1 => ?_
  obtain ⟨b1, b2, b3, b4⟩ := hB
  have hpost : Value.int v = .int r := hpost
  cases hpost
  rw [ht] at b2
  have hr2 : zr G A s R cC cS ad2 h2 H1 locs1 (cells + (h2.2.2.length - h.2.2.length + 1)) (slots + (zsum h2.2.2 - zsum h.2.2 + 6)) := by
    refine ⟨b2, b3.weaken (fun _ q _ hq => hFA q.1 hq), hS1, b4, fun k hk => ?_, by omega, by omega, hcap.1, hcap.2, fun a ha => ?_, by omega⟩
    · rw [b1 (1000000 + k) (Or.inr ⟨by omega, by omega⟩)]
      exact hstr k hk
    · rw [b1 a (Or.inl (by omega))]
      exact hag a ha
  have k1 := kk ad2 H1 locs1 ls _ _ hr2 (zlv_up hlv hok b1) (zok_i (zok_up hle (zrest_ok hok)))
  have e3 : (.int v :: st).map (zt ad2) = .int v :: st.map (zt ad) := by
    rw [List.map_cons]
    rw [zst_up (zrest_ok hok) b1]
    rfl
  rw [e3] at k1
  exact k1
end ZLAW
section ZLC
variable {own : String} {cc : ByteArray} {nL d pc : Nat} {ini : Bool} {Z : ZK} {L : Fr} {ts : List Bool} {st : List Value} {h : Hp}
theorem zw_lcmp {x y : Int64} (hX : zx own cc nL d ini Z) (hd : decode cc pc = .ok (.lcmp, 1)) (kk : zw Z nL (pc + 1) L ts (.int (lg_cmp x y) :: st) h) : zw Z nL pc L ts (.long y :: .long x :: st) h := by
  obtain ⟨p, l, e, R, s, m, args, below, meth, co, Q, A, G, cC, cS⟩ := Z
  intro ad H locs ls cells slots hr hlv hok
  exact W.lcmp hX.1 hX.2.1 hd (kk ad H locs ls cells slots hr hlv (zok_i (zok_tl (zok_tl hok))))
end ZLC
