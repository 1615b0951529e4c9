/-! THE LAW'S HELPERS (written by gen/help.py). -/
set_option maxRecDepth 100000
theorem H_X0_of {l : Launch} (hl : l.stackTraces = false) {G : ZG} {ad : Nat → Nat} {h : Hp} {x o : Nat} {p0 p1 v : Int32} {h2 : Hp} {sz : Nat} (hF : zhm B_X1_of [Value.ref x, .int p0, .int p1] x o h = some (v, h2)) (hwf : zwf h) (hix : zid h x) (hio : zid h o) (hcap : h2.2.2.length + 1 ≤ 1000000) (hstr : ∀ k, k < 13 → ad (1000000 + k) = G.2.2.1 k) :
    Met l yX0_of (wsW_ yX0_of cX0_of 5 (some .int) [(0, 10, 13, 13)]) (zrmH 9 h h2) (va_Pc ([Value.ref x, .int p0, .int p1, .ref o].map (zt ad)) (zPre G ad h sz)) (zQ 0 G ad h h2 sz (.int v)) (h2.2.2.length - h.2.2.length + 1) (zsum h2.2.2 - zsum h.2.2 + 6) (va_A (zws G ad h) sz) := by
  obtain ⟨hx0, r, hr, hcase⟩ := zhm_key hF
  have hle : zle h r.2.2 := W_X1_of.1 _ _ _ hr
  have l1 := zle_len hle
  have l2 := zle_sum hle
  have e22 : h2.2.2 = r.2.2.2.2 := by
    rcases hcase with ⟨-, -, -, rfl⟩ | ⟨-, -, rfl⟩ <;> rfl
  have has : ∀ a, Value.ref a ∈ [Value.ref x, .int p0, .int p1, .ref o] → zid h a := by
    intro a ha
    simp only [List.mem_cons, List.not_mem_nil, or_false, Value.ref.injEq, reduceCtorEq, false_or] at ha
    rcases ha with rfl | rfl
    · exact hix
    · exact hio
  have hasS : ∀ a, Value.ref a ∈ [Value.ref x, .int p0, .int p1] → zid h a := by
    intro a ha
    simp only [List.mem_cons, List.not_mem_nil, or_false, Value.ref.injEq, reduceCtorEq] at ha
    subst ha
    exact hix
  refine zmetX (vx_ofWH (cc := cX0_of) (maxL := 5) (ret := some .int) (hh := [(0, 10, 13, 13)]) (by decide +kernel) rfl ?_)
  intro p e s0 m args below meth c s₁ B hml hv
  obtain ⟨hargs, hsz, hP, hK, hD, hew, hex⟩ := hv
  have hts0 := atoms_spec (ws := wsW_ yX0_of cX0_of 5 (some .int) [(0, 10, 13, 13)]) B.pre
  have hts : ∀ w ∈ lw_all, w.before args s0 = true := fun w h => hts0 w (List.mem_cons_of_mem _ h)
  have htab : c.exceptionTable.toList = tableOf [(0, 10, 13, 13)] := vx_table (x := yX0_of) B (hts0 _ List.mem_cons_self)
  have hown : s0.vm.findClass RX0 = some m.cls := findClass_of_methodNamed B.named
  have hX1 := B.exec
  have hX2 := B.bytes
  generalize hZ : ((p, l, e, (headSpec (wsW_ yX0_of cX0_of 5 (some .int) [(0, 10, 13, 13)]) (zrmH 9 h h2)).room, s0, m, args, below, meth, c, vx_MQ below (zQ 0 G ad h h2 sz (.int v)) (fun _ _ _ => False) args s0 (h2.2.2.length - h.2.2.length + 1) (zsum h2.2.2 - zsum h.2.2 + 6) (va_A (zws G ad h) sz), va_A (zws G ad h) sz, (G.1, G.2.1, G.2.2.1, G.2.2.2.1, ad, h.2.2.length), h2.2.2.length + 1, zsum h2.2.2 + 6) : ZK) = Z
  have X : zx RX0 cX0_of 5 9 false Z := by
    rw [← hZ]
    exact ⟨B.exec, B.bytes, hml, hown, hts, hK, hew.2.1, hew, hex, fun q hq => Or.inr (by rw [← hsz]; exact hq), Nat.le_refl _, Nat.le_refl _, hcap, B.notSynchronized, fun hi => by cases hi⟩
  have hcapZ : zcap Z r.2.2 := by
    rw [← hZ]
    exact ⟨by rw [e22]; exact Nat.le_succ _, by rw [e22]; exact Nat.le_add_right _ _⟩
  have w : zw Z 5 0 (zf [Value.ref x, .int p0, .int p1, .ref o]) [true, false, false, true] [] h := by
    rcases hcase with ⟨h3, ho, rfl, rfl⟩ | ⟨h4, rfl, rfl⟩
    · have hcall : F_X1_of [Value.ref x, .int p0, .int p1] h = some (.int (r.2.1.1 999), r.2.2) := by
        show (if h.2.2[x]? = some (0, 52) then zm_i [true, false, false] zfit B_X1_of [Value.ref x, .int p0, .int p1] h else none) = _
        rw [if_pos hx0]
        show ((B_X1_of (zf [Value.ref x, .int p0, .int p1]) h).bind fun r => if r.1 = 3 ∧ zfit (r.2.1.1 999) = true then some (Value.int (r.2.1.1 999), r.2.2) else none) = _
        rw [hr]
        show (if r.1 = 3 ∧ zfit (r.2.1.1 999) = true then some (Value.int (r.2.1.1 999), r.2.2) else none) = _
        rw [if_pos ⟨h3, rfl⟩]
      refine zw_aload_n (i := 3) X rfl rfl dX0_of_0 ?_
      refine zw_const X 0 rfl dX0_of_1 ?_
      refine zw_aload_n (i := 0) X rfl rfl dX0_of_2 ?_
      refine zw_iload_n (i := 1) X rfl rfl dX0_of_3 ?_
      refine zw_iload_n (i := 2) X rfl rfl dX0_of_4 ?_
      show zw Z 5 5 _ _ (.int p1 :: .int p0 :: .ref x :: .int 0 :: .ref o :: []) _
      refine zw_callV (as := [Value.ref x, .int p0, .int p1]) (n := 2) (st := [.int 0, .ref o]) X M_X1_of (Or.inl rfl) zrcv_vt zcls0 (Nat.le_of_ble_eq_true rfl) (Nat.le_of_ble_eq_true rfl) q940 q941 q942 q89 q943 ⟨rfl, by decide, by decide, rfl⟩ dX0_of_5 hcall rfl hcapZ (Nat.le_of_ble_eq_true rfl) ?_
      refine zw_i2l X dX0_of_8 ?_
      refine zw_last X dX0_of_9 ho rfl ?_
      refine zw_goto X rfl dX0_of_10 ?_
      refine zw_const X 0 rfl dX0_of_17 ?_
      rw [← hZ]
      intro ad2 H locs ls cells slots hr2 hlv hok
      obtain ⟨hP2, hD2, hS2, hwf2, hs2, hc1, hc2, hc3, hc4, hag, hn0⟩ := hr2
      have hc1 : cells + (r.2.2.2.2.length + 1) ≤ (r.2.2.2.2.length - h.2.2.length + 1) + r.2.2.2.2.length := hc1
      have hc2 : slots + (zsum r.2.2.2.2 + 6) ≤ (zsum r.2.2.2.2 - zsum h.2.2 + 6) + zsum r.2.2.2.2 := hc2
      exact zendH B.exec B.bytes B.returns B.notSynchronized dX0_of_18 (by show cells ≤ r.2.2.2.2.length - h.2.2.length + 1; omega) (by show slots ≤ zsum r.2.2.2.2 - zsum h.2.2 + 6; omega) (fun t ht => ⟨zstr_of hstr hs2 (fun a ha => hag a ha), by rw [ht]; exact hP2, hD2, hwf2⟩) hS2
    ·
      refine zw_aload_n (i := 3) X rfl rfl dX0_of_0 ?_
      refine zw_const X 0 rfl dX0_of_1 ?_
      refine zw_aload_n (i := 0) X rfl rfl dX0_of_2 ?_
      refine zw_iload_n (i := 1) X rfl rfl dX0_of_3 ?_
      refine zw_iload_n (i := 2) X rfl rfl dX0_of_4 ?_
      show zw Z 5 5 _ _ (.int p1 :: .int p0 :: .ref x :: .int 0 :: .ref o :: []) _
      rw [← hZ] at X ⊢
      intro ad2 H locs ls cells slots hr2 hlv hok
      have hr0 := hr2
      obtain ⟨hP2, hD2, hS2, hwf2, hs2, hc1, hc2, hc3, hc4, hag, hn0⟩ := hr2
      have hc1 : cells + (r.2.2.2.2.length + 1) ≤ (r.2.2.2.2.length - h.2.2.length + 1) + h.2.2.length := hc1
      have hc2 : slots + (zsum r.2.2.2.2 + 6) ≤ (zsum r.2.2.2.2 - zsum h.2.2 + 6) + zsum h.2.2 := hc2
      have hFA : ∀ q, va_A (zws G ad2 h) H.size q → va_A (zws G ad h) sz q := by
        intro q hq
        rcases hq with ⟨k, e, hq⟩ | hq
        · exact hD2.2 k (q, e) hq
        · exact Or.inr (by rw [← hsz]; exact Nat.le_trans hS2.1 hq)
      have hmet := zThr (y := yX1_of) (ret := some .int) (Qc := va_Qi (S := Nat) (fun _ _ => False) (fun _ _ => True) (fun _ => False)) (by decide +kernel) rfl (Nat.le_of_ble_eq_true rfl) W_X1_of hl (G := (G.1, G.2.1, G.2.2.1, G.2.2.2.1, ad, h.2.2.length)) (ad := ad2) (as := [Value.ref x, .int p0, .int p1]) (sz := H.size) rfl hr h4 hwf2 hasS hcap hs2
      have he : (zws (G.1, G.2.1, G.2.2.1, G.2.2.2.1, ad, h.2.2.length) ad2 h)[x]? = some (ad2 x, .inr (0, zfs ad2 h x 0 52)) := by rw [zws_at hx0, zce_obj (by decide)]
      refine vx_calli (A0 := va_A (zws G ad h) sz) (vx_runV (Ts := lw_all) (own := RX0) (C := RX1) (b := ad2 x) (As := ([.int p0, .int p1] : List Value).map (zt ad2)) ⟨X.1, X.2.1, X.2.2.1, X.2.2.2.1, X.2.2.2.2.1⟩ hmet (cwV 2 hts (lw_V q940 q941 q942 q89 q943) rfl rfl rfl ⟨rfl, by decide, by decide, rfl⟩ ⟨by show 8 + 1 ≤ 9; omega, by show 8 + (3 + 11) + 64 * 8 ≤ 64 * 9; omega⟩) ⟨zblind, va_recv X.2.2.2.2.2.1 hr0.1 zcls0.1 he, fun U hU hW => ⟨rfl, zstart X.2.2.2.2.2.1 X.2.2.2.2.2.2.2.1 X.2.2.2.2.2.2.2.2.1 X.2.2.2.2.2.2.2.2.2.1 hr0 hU hW⟩⟩ rfl rfl hlv.1 rfl (lv_room (Nat.le_of_ble_eq_true rfl)) dX0_of_5 ⟨by show cells + (r.2.2.2.2.length - h.2.2.length + 1) ≤ r.2.2.2.2.length - h.2.2.length + 1; omega, by show slots + (zsum r.2.2.2.2 - zsum h.2.2 + 6) ≤ zsum r.2.2.2.2 - zsum h.2.2 + 6; omega⟩) hS2 (fun q _ hq => hq.elim) hFA (fun q _ hq => hFA q hq) ?_ (fun r u t H1 locs1 _ _ hp => hp.elim)
      intro E ce q9 ad3 t H1 locs1 ht hvm _ hBX hsz1 hkeep hS1 hcell hcv hcl
      obtain ⟨rfl, b1, b2, b3, b4⟩ := hBX
      refine vx_catch (own := RX0) (name := zNSE) hown [] ⟨0, 10, 13, 13⟩ [] (by rw [htab]; rfl) (fun z hz => by cases hz) (by decide) (by decide) (hts _ q939) (va_Nw.use rfl (hew.2.1 _ (List.mem_of_getElem? (i := 20) rfl))) hcell hcv hcl ?_
      refine lv_astore hX1 hX2 dX0_of_13 hlv (Nat.le_of_ble_eq_true rfl) rfl (fun ls' hl' => ?_)
      refine lv_iconst hX1 hX2 dX0_of_15 rfl ?_
      refine zendH (ad2 := ad3) B.exec B.bytes B.returns B.notSynchronized dX0_of_16 (by omega) (by omega) (fun t' ht' => ⟨fun a ha => (b1 a ha).trans (zstr_of hstr hs2 (fun a ha => hag a ha) a ha), by rw [ht', ← ht]; exact b2, b3.weaken (fun _ q _ hq => hFA q.1 hq), b4⟩) hS1
  subst hargs
  subst hsz
  rw [← hZ] at w
  rw [lg_entry_eq]
  exact w ad s0.heap [] _ 0 0 ⟨hP, hD.self, va_S.rf, hwf, hstr, by show 0 + (h2.2.2.length + 1) ≤ (h2.2.2.length - h.2.2.length + 1) + h.2.2.length; rw [e22]; omega, by show 0 + (zsum h2.2.2 + 6) ≤ (zsum h2.2.2 - zsum h.2.2 + 6) + zsum h.2.2; rw [e22]; omega, by rw [e22]; omega, by rw [e22]; omega, fun a _ => rfl, Nat.le_refl _⟩ (zentry rfl (Nat.le_of_ble_eq_true rfl)) (zentry_ok has)
theorem H_X0_net {l : Launch} (hl : l.stackTraces = false) {G : ZG} {ad : Nat → Nat} {h : Hp} {x o : Nat} {p0 v : Int32} {h2 : Hp} {sz : Nat} (hF : zhm B_X1_net [Value.ref x, .int p0] x o h = some (v, h2)) (hwf : zwf h) (hix : zid h x) (hio : zid h o) (hcap : h2.2.2.length + 1 ≤ 1000000) (hstr : ∀ k, k < 13 → ad (1000000 + k) = G.2.2.1 k) :
    Met l yX0_net (wsW_ yX0_net cX0_net 4 (some .int) [(0, 9, 12, 13)]) (zrmH 9 h h2) (va_Pc ([Value.ref x, .int p0, .ref o].map (zt ad)) (zPre G ad h sz)) (zQ 0 G ad h h2 sz (.int v)) (h2.2.2.length - h.2.2.length + 1) (zsum h2.2.2 - zsum h.2.2 + 6) (va_A (zws G ad h) sz) := by
  obtain ⟨hx0, r, hr, hcase⟩ := zhm_key hF
  have hle : zle h r.2.2 := W_X1_net.1 _ _ _ hr
  have l1 := zle_len hle
  have l2 := zle_sum hle
  have e22 : h2.2.2 = r.2.2.2.2 := by
    rcases hcase with ⟨-, -, -, rfl⟩ | ⟨-, -, rfl⟩ <;> rfl
  have has : ∀ a, Value.ref a ∈ [Value.ref x, .int p0, .ref o] → zid h a := by
    intro a ha
    simp only [List.mem_cons, List.not_mem_nil, or_false, Value.ref.injEq, reduceCtorEq, false_or] at ha
    rcases ha with rfl | rfl
    · exact hix
    · exact hio
  have hasS : ∀ a, Value.ref a ∈ [Value.ref x, .int p0] → zid h a := by
    intro a ha
    simp only [List.mem_cons, List.not_mem_nil, or_false, Value.ref.injEq, reduceCtorEq] at ha
    subst ha
    exact hix
  refine zmetX (vx_ofWH (cc := cX0_net) (maxL := 4) (ret := some .int) (hh := [(0, 9, 12, 13)]) (by decide +kernel) rfl ?_)
  intro p e s0 m args below meth c s₁ B hml hv
  obtain ⟨hargs, hsz, hP, hK, hD, hew, hex⟩ := hv
  have hts0 := atoms_spec (ws := wsW_ yX0_net cX0_net 4 (some .int) [(0, 9, 12, 13)]) B.pre
  have hts : ∀ w ∈ lw_all, w.before args s0 = true := fun w h => hts0 w (List.mem_cons_of_mem _ h)
  have htab : c.exceptionTable.toList = tableOf [(0, 9, 12, 13)] := vx_table (x := yX0_net) B (hts0 _ List.mem_cons_self)
  have hown : s0.vm.findClass RX0 = some m.cls := findClass_of_methodNamed B.named
  have hX1 := B.exec
  have hX2 := B.bytes
  generalize hZ : ((p, l, e, (headSpec (wsW_ yX0_net cX0_net 4 (some .int) [(0, 9, 12, 13)]) (zrmH 9 h h2)).room, s0, m, args, below, meth, c, vx_MQ below (zQ 0 G ad h h2 sz (.int v)) (fun _ _ _ => False) args s0 (h2.2.2.length - h.2.2.length + 1) (zsum h2.2.2 - zsum h.2.2 + 6) (va_A (zws G ad h) sz), va_A (zws G ad h) sz, (G.1, G.2.1, G.2.2.1, G.2.2.2.1, ad, h.2.2.length), h2.2.2.length + 1, zsum h2.2.2 + 6) : ZK) = Z
  have X : zx RX0 cX0_net 4 9 false Z := by
    rw [← hZ]
    exact ⟨B.exec, B.bytes, hml, hown, hts, hK, hew.2.1, hew, hex, fun q hq => Or.inr (by rw [← hsz]; exact hq), Nat.le_refl _, Nat.le_refl _, hcap, B.notSynchronized, fun hi => by cases hi⟩
  have hcapZ : zcap Z r.2.2 := by
    rw [← hZ]
    exact ⟨by rw [e22]; exact Nat.le_succ _, by rw [e22]; exact Nat.le_add_right _ _⟩
  have w : zw Z 4 0 (zf [Value.ref x, .int p0, .ref o]) [true, false, true] [] h := by
    rcases hcase with ⟨h3, ho, rfl, rfl⟩ | ⟨h4, rfl, rfl⟩
    · have hcall : F_X1_net [Value.ref x, .int p0] h = some (.int (r.2.1.1 999), r.2.2) := by
        show (if h.2.2[x]? = some (0, 52) then zm_i [true, false] zfit B_X1_net [Value.ref x, .int p0] h else none) = _
        rw [if_pos hx0]
        show ((B_X1_net (zf [Value.ref x, .int p0]) h).bind fun r => if r.1 = 3 ∧ zfit (r.2.1.1 999) = true then some (Value.int (r.2.1.1 999), r.2.2) else none) = _
        rw [hr]
        show (if r.1 = 3 ∧ zfit (r.2.1.1 999) = true then some (Value.int (r.2.1.1 999), r.2.2) else none) = _
        rw [if_pos ⟨h3, rfl⟩]
      refine zw_aload_n (i := 2) X rfl rfl dX0_net_0 ?_
      refine zw_const X 0 rfl dX0_net_1 ?_
      refine zw_aload_n (i := 0) X rfl rfl dX0_net_2 ?_
      refine zw_iload_n (i := 1) X rfl rfl dX0_net_3 ?_
      show zw Z 4 4 _ _ (.int p0 :: .ref x :: .int 0 :: .ref o :: []) _
      refine zw_callV (as := [Value.ref x, .int p0]) (n := 1) (st := [.int 0, .ref o]) X M_X1_net (Or.inl rfl) zrcv_vt zcls0 (Nat.le_of_ble_eq_true rfl) (Nat.le_of_ble_eq_true rfl) q1008 q1009 q1010 q89 q1011 ⟨rfl, by decide, by decide, rfl⟩ dX0_net_4 hcall rfl hcapZ (Nat.le_of_ble_eq_true rfl) ?_
      refine zw_i2l X dX0_net_7 ?_
      refine zw_last X dX0_net_8 ho rfl ?_
      refine zw_goto X rfl dX0_net_9 ?_
      refine zw_const X 0 rfl dX0_net_15 ?_
      rw [← hZ]
      intro ad2 H locs ls cells slots hr2 hlv hok
      obtain ⟨hP2, hD2, hS2, hwf2, hs2, hc1, hc2, hc3, hc4, hag, hn0⟩ := hr2
      have hc1 : cells + (r.2.2.2.2.length + 1) ≤ (r.2.2.2.2.length - h.2.2.length + 1) + r.2.2.2.2.length := hc1
      have hc2 : slots + (zsum r.2.2.2.2 + 6) ≤ (zsum r.2.2.2.2 - zsum h.2.2 + 6) + zsum r.2.2.2.2 := hc2
      exact zendH B.exec B.bytes B.returns B.notSynchronized dX0_net_16 (by show cells ≤ r.2.2.2.2.length - h.2.2.length + 1; omega) (by show slots ≤ zsum r.2.2.2.2 - zsum h.2.2 + 6; omega) (fun t ht => ⟨zstr_of hstr hs2 (fun a ha => hag a ha), by rw [ht]; exact hP2, hD2, hwf2⟩) hS2
    ·
      refine zw_aload_n (i := 2) X rfl rfl dX0_net_0 ?_
      refine zw_const X 0 rfl dX0_net_1 ?_
      refine zw_aload_n (i := 0) X rfl rfl dX0_net_2 ?_
      refine zw_iload_n (i := 1) X rfl rfl dX0_net_3 ?_
      show zw Z 4 4 _ _ (.int p0 :: .ref x :: .int 0 :: .ref o :: []) _
      rw [← hZ] at X ⊢
      intro ad2 H locs ls cells slots hr2 hlv hok
      have hr0 := hr2
      obtain ⟨hP2, hD2, hS2, hwf2, hs2, hc1, hc2, hc3, hc4, hag, hn0⟩ := hr2
      have hc1 : cells + (r.2.2.2.2.length + 1) ≤ (r.2.2.2.2.length - h.2.2.length + 1) + h.2.2.length := hc1
      have hc2 : slots + (zsum r.2.2.2.2 + 6) ≤ (zsum r.2.2.2.2 - zsum h.2.2 + 6) + zsum h.2.2 := hc2
      have hFA : ∀ q, va_A (zws G ad2 h) H.size q → va_A (zws G ad h) sz q := by
        intro q hq
        rcases hq with ⟨k, e, hq⟩ | hq
        · exact hD2.2 k (q, e) hq
        · exact Or.inr (by rw [← hsz]; exact Nat.le_trans hS2.1 hq)
      have hmet := zThr (y := yX1_net) (ret := some .int) (Qc := va_Qi (S := Nat) (fun _ _ => False) (fun _ _ => True) (fun _ => False)) (by decide +kernel) rfl (Nat.le_of_ble_eq_true rfl) W_X1_net hl (G := (G.1, G.2.1, G.2.2.1, G.2.2.2.1, ad, h.2.2.length)) (ad := ad2) (as := [Value.ref x, .int p0]) (sz := H.size) rfl hr h4 hwf2 hasS hcap hs2
      have he : (zws (G.1, G.2.1, G.2.2.1, G.2.2.2.1, ad, h.2.2.length) ad2 h)[x]? = some (ad2 x, .inr (0, zfs ad2 h x 0 52)) := by rw [zws_at hx0, zce_obj (by decide)]
      refine vx_calli (A0 := va_A (zws G ad h) sz) (vx_runV (Ts := lw_all) (own := RX0) (C := RX1) (b := ad2 x) (As := ([.int p0] : List Value).map (zt ad2)) ⟨X.1, X.2.1, X.2.2.1, X.2.2.2.1, X.2.2.2.2.1⟩ hmet (cwV 1 hts (lw_V q1008 q1009 q1010 q89 q1011) rfl rfl rfl ⟨rfl, by decide, by decide, rfl⟩ ⟨by show 8 + 1 ≤ 9; omega, by show 8 + (2 + 11) + 64 * 8 ≤ 64 * 9; omega⟩) ⟨zblind, va_recv X.2.2.2.2.2.1 hr0.1 zcls0.1 he, fun U hU hW => ⟨rfl, zstart X.2.2.2.2.2.1 X.2.2.2.2.2.2.2.1 X.2.2.2.2.2.2.2.2.1 X.2.2.2.2.2.2.2.2.2.1 hr0 hU hW⟩⟩ rfl rfl hlv.1 rfl (lv_room (Nat.le_of_ble_eq_true rfl)) dX0_net_4 ⟨by show cells + (r.2.2.2.2.length - h.2.2.length + 1) ≤ r.2.2.2.2.length - h.2.2.length + 1; omega, by show slots + (zsum r.2.2.2.2 - zsum h.2.2 + 6) ≤ zsum r.2.2.2.2 - zsum h.2.2 + 6; omega⟩) hS2 (fun q _ hq => hq.elim) hFA (fun q _ hq => hFA q hq) ?_ (fun r u t H1 locs1 _ _ hp => hp.elim)
      intro E ce q9 ad3 t H1 locs1 ht hvm _ hBX hsz1 hkeep hS1 hcell hcv hcl
      obtain ⟨rfl, b1, b2, b3, b4⟩ := hBX
      refine vx_catch (own := RX0) (name := zNSE) hown [] ⟨0, 9, 12, 13⟩ [] (by rw [htab]; rfl) (fun z hz => by cases hz) (by decide) (by decide) (hts _ q939) (va_Nw.use rfl (hew.2.1 _ (List.mem_of_getElem? (i := 20) rfl))) hcell hcv hcl ?_
      refine lv_astore_n hX1 hX2 dX0_net_12 rfl hlv (Nat.le_of_ble_eq_true rfl) rfl (fun ls' hl' => ?_)
      refine lv_iconst hX1 hX2 dX0_net_13 rfl ?_
      refine zendH (ad2 := ad3) B.exec B.bytes B.returns B.notSynchronized dX0_net_14 (by omega) (by omega) (fun t' ht' => ⟨fun a ha => (b1 a ha).trans (zstr_of hstr hs2 (fun a ha => hag a ha) a ha), by rw [ht', ← ht]; exact b2, b3.weaken (fun _ q _ hq => hFA q.1 hq), b4⟩) hS1
  subst hargs
  subst hsz
  rw [← hZ] at w
  rw [lg_entry_eq]
  exact w ad s0.heap [] _ 0 0 ⟨hP, hD.self, va_S.rf, hwf, hstr, by show 0 + (h2.2.2.length + 1) ≤ (h2.2.2.length - h.2.2.length + 1) + h.2.2.length; rw [e22]; omega, by show 0 + (zsum h2.2.2 + 6) ≤ (zsum h2.2.2 - zsum h.2.2 + 6) + zsum h.2.2; rw [e22]; omega, by rw [e22]; omega, by rw [e22]; omega, fun a _ => rfl, Nat.le_refl _⟩ (zentry rfl (Nat.le_of_ble_eq_true rfl)) (zentry_ok has)
theorem H_X0_bare {l : Launch} (hl : l.stackTraces = false) {G : ZG} {ad : Nat → Nat} {h : Hp} {x o : Nat} {p0 p1 v : Int32} {h2 : Hp} {sz : Nat} (hF : zhm B_X1_bare [Value.ref x, .int p0, .int p1] x o h = some (v, h2)) (hwf : zwf h) (hix : zid h x) (hio : zid h o) (hcap : h2.2.2.length + 1 ≤ 1000000) (hstr : ∀ k, k < 13 → ad (1000000 + k) = G.2.2.1 k) :
    Met l yX0_bare (wsW_ yX0_bare cX0_bare 5 (some .int) [(0, 10, 13, 13)]) (zrmH 132 h h2) (va_Pc ([Value.ref x, .int p0, .int p1, .ref o].map (zt ad)) (zPre G ad h sz)) (zQ 0 G ad h h2 sz (.int v)) (h2.2.2.length - h.2.2.length + 1) (zsum h2.2.2 - zsum h.2.2 + 6) (va_A (zws G ad h) sz) := by
  obtain ⟨hx0, r, hr, hcase⟩ := zhm_key hF
  have hle : zle h r.2.2 := W_X1_bare.1 _ _ _ hr
  have l1 := zle_len hle
  have l2 := zle_sum hle
  have e22 : h2.2.2 = r.2.2.2.2 := by
    rcases hcase with ⟨-, -, -, rfl⟩ | ⟨-, -, rfl⟩ <;> rfl
  have has : ∀ a, Value.ref a ∈ [Value.ref x, .int p0, .int p1, .ref o] → zid h a := by
    intro a ha
    simp only [List.mem_cons, List.not_mem_nil, or_false, Value.ref.injEq, reduceCtorEq, false_or] at ha
    rcases ha with rfl | rfl
    · exact hix
    · exact hio
  have hasS : ∀ a, Value.ref a ∈ [Value.ref x, .int p0, .int p1] → zid h a := by
    intro a ha
    simp only [List.mem_cons, List.not_mem_nil, or_false, Value.ref.injEq, reduceCtorEq] at ha
    subst ha
    exact hix
  refine zmetX (vx_ofWH (cc := cX0_bare) (maxL := 5) (ret := some .int) (hh := [(0, 10, 13, 13)]) (by decide +kernel) rfl ?_)
  intro p e s0 m args below meth c s₁ B hml hv
  obtain ⟨hargs, hsz, hP, hK, hD, hew, hex⟩ := hv
  have hts0 := atoms_spec (ws := wsW_ yX0_bare cX0_bare 5 (some .int) [(0, 10, 13, 13)]) B.pre
  have hts : ∀ w ∈ lw_all, w.before args s0 = true := fun w h => hts0 w (List.mem_cons_of_mem _ h)
  have htab : c.exceptionTable.toList = tableOf [(0, 10, 13, 13)] := vx_table (x := yX0_bare) B (hts0 _ List.mem_cons_self)
  have hown : s0.vm.findClass RX0 = some m.cls := findClass_of_methodNamed B.named
  have hX1 := B.exec
  have hX2 := B.bytes
  generalize hZ : ((p, l, e, (headSpec (wsW_ yX0_bare cX0_bare 5 (some .int) [(0, 10, 13, 13)]) (zrmH 132 h h2)).room, s0, m, args, below, meth, c, vx_MQ below (zQ 0 G ad h h2 sz (.int v)) (fun _ _ _ => False) args s0 (h2.2.2.length - h.2.2.length + 1) (zsum h2.2.2 - zsum h.2.2 + 6) (va_A (zws G ad h) sz), va_A (zws G ad h) sz, (G.1, G.2.1, G.2.2.1, G.2.2.2.1, ad, h.2.2.length), h2.2.2.length + 1, zsum h2.2.2 + 6) : ZK) = Z
  have X : zx RX0 cX0_bare 5 132 false Z := by
    rw [← hZ]
    exact ⟨B.exec, B.bytes, hml, hown, hts, hK, hew.2.1, hew, hex, fun q hq => Or.inr (by rw [← hsz]; exact hq), Nat.le_refl _, Nat.le_refl _, hcap, B.notSynchronized, fun hi => by cases hi⟩
  have hcapZ : zcap Z r.2.2 := by
    rw [← hZ]
    exact ⟨by rw [e22]; exact Nat.le_succ _, by rw [e22]; exact Nat.le_add_right _ _⟩
  have w : zw Z 5 0 (zf [Value.ref x, .int p0, .int p1, .ref o]) [true, false, false, true] [] h := by
    rcases hcase with ⟨h3, ho, rfl, rfl⟩ | ⟨h4, rfl, rfl⟩
    · have hcall : F_X1_bare [Value.ref x, .int p0, .int p1] h = some (.int (r.2.1.1 999), r.2.2) := by
        show (if h.2.2[x]? = some (0, 52) then zm_i [true, false, false] zfit B_X1_bare [Value.ref x, .int p0, .int p1] h else none) = _
        rw [if_pos hx0]
        show ((B_X1_bare (zf [Value.ref x, .int p0, .int p1]) h).bind fun r => if r.1 = 3 ∧ zfit (r.2.1.1 999) = true then some (Value.int (r.2.1.1 999), r.2.2) else none) = _
        rw [hr]
        show (if r.1 = 3 ∧ zfit (r.2.1.1 999) = true then some (Value.int (r.2.1.1 999), r.2.2) else none) = _
        rw [if_pos ⟨h3, rfl⟩]
      refine zw_aload_n (i := 3) X rfl rfl dX0_bare_0 ?_
      refine zw_const X 0 rfl dX0_bare_1 ?_
      refine zw_aload_n (i := 0) X rfl rfl dX0_bare_2 ?_
      refine zw_iload_n (i := 1) X rfl rfl dX0_bare_3 ?_
      refine zw_iload_n (i := 2) X rfl rfl dX0_bare_4 ?_
      show zw Z 5 5 _ _ (.int p1 :: .int p0 :: .ref x :: .int 0 :: .ref o :: []) _
      refine zw_callV (as := [Value.ref x, .int p0, .int p1]) (n := 2) (st := [.int 0, .ref o]) X M_X1_bare (Or.inl rfl) zrcv_vt zcls0 (Nat.le_of_ble_eq_true rfl) (Nat.le_of_ble_eq_true rfl) q1015 q1016 q1017 q89 q1018 ⟨rfl, by decide, by decide, rfl⟩ dX0_bare_5 hcall rfl hcapZ (Nat.le_of_ble_eq_true rfl) ?_
      refine zw_i2l X dX0_bare_8 ?_
      refine zw_last X dX0_bare_9 ho rfl ?_
      refine zw_goto X rfl dX0_bare_10 ?_
      refine zw_const X 0 rfl dX0_bare_17 ?_
      rw [← hZ]
      intro ad2 H locs ls cells slots hr2 hlv hok
      obtain ⟨hP2, hD2, hS2, hwf2, hs2, hc1, hc2, hc3, hc4, hag, hn0⟩ := hr2
      have hc1 : cells + (r.2.2.2.2.length + 1) ≤ (r.2.2.2.2.length - h.2.2.length + 1) + r.2.2.2.2.length := hc1
      have hc2 : slots + (zsum r.2.2.2.2 + 6) ≤ (zsum r.2.2.2.2 - zsum h.2.2 + 6) + zsum r.2.2.2.2 := hc2
      exact zendH B.exec B.bytes B.returns B.notSynchronized dX0_bare_18 (by show cells ≤ r.2.2.2.2.length - h.2.2.length + 1; omega) (by show slots ≤ zsum r.2.2.2.2 - zsum h.2.2 + 6; omega) (fun t ht => ⟨zstr_of hstr hs2 (fun a ha => hag a ha), by rw [ht]; exact hP2, hD2, hwf2⟩) hS2
    ·
      refine zw_aload_n (i := 3) X rfl rfl dX0_bare_0 ?_
      refine zw_const X 0 rfl dX0_bare_1 ?_
      refine zw_aload_n (i := 0) X rfl rfl dX0_bare_2 ?_
      refine zw_iload_n (i := 1) X rfl rfl dX0_bare_3 ?_
      refine zw_iload_n (i := 2) X rfl rfl dX0_bare_4 ?_
      show zw Z 5 5 _ _ (.int p1 :: .int p0 :: .ref x :: .int 0 :: .ref o :: []) _
      rw [← hZ] at X ⊢
      intro ad2 H locs ls cells slots hr2 hlv hok
      have hr0 := hr2
      obtain ⟨hP2, hD2, hS2, hwf2, hs2, hc1, hc2, hc3, hc4, hag, hn0⟩ := hr2
      have hc1 : cells + (r.2.2.2.2.length + 1) ≤ (r.2.2.2.2.length - h.2.2.length + 1) + h.2.2.length := hc1
      have hc2 : slots + (zsum r.2.2.2.2 + 6) ≤ (zsum r.2.2.2.2 - zsum h.2.2 + 6) + zsum h.2.2 := hc2
      have hFA : ∀ q, va_A (zws G ad2 h) H.size q → va_A (zws G ad h) sz q := by
        intro q hq
        rcases hq with ⟨k, e, hq⟩ | hq
        · exact hD2.2 k (q, e) hq
        · exact Or.inr (by rw [← hsz]; exact Nat.le_trans hS2.1 hq)
      have hmet := zThr (y := yX1_bare) (ret := some .int) (Qc := va_Qi (S := Nat) (fun _ _ => False) (fun _ _ => True) (fun _ => False)) (by decide +kernel) rfl (Nat.le_of_ble_eq_true rfl) W_X1_bare hl (G := (G.1, G.2.1, G.2.2.1, G.2.2.2.1, ad, h.2.2.length)) (ad := ad2) (as := [Value.ref x, .int p0, .int p1]) (sz := H.size) rfl hr h4 hwf2 hasS hcap hs2
      have he : (zws (G.1, G.2.1, G.2.2.1, G.2.2.2.1, ad, h.2.2.length) ad2 h)[x]? = some (ad2 x, .inr (0, zfs ad2 h x 0 52)) := by rw [zws_at hx0, zce_obj (by decide)]
      refine vx_calli (A0 := va_A (zws G ad h) sz) (vx_runV (Ts := lw_all) (own := RX0) (C := RX1) (b := ad2 x) (As := ([.int p0, .int p1] : List Value).map (zt ad2)) ⟨X.1, X.2.1, X.2.2.1, X.2.2.2.1, X.2.2.2.2.1⟩ hmet (cwV 2 hts (lw_V q1015 q1016 q1017 q89 q1018) rfl rfl rfl ⟨rfl, by decide, by decide, rfl⟩ ⟨by show 131 + 1 ≤ 132; omega, by show 8 + (4 + 11) + 64 * 131 ≤ 64 * 132; omega⟩) ⟨zblind, va_recv X.2.2.2.2.2.1 hr0.1 zcls0.1 he, fun U hU hW => ⟨rfl, zstart X.2.2.2.2.2.1 X.2.2.2.2.2.2.2.1 X.2.2.2.2.2.2.2.2.1 X.2.2.2.2.2.2.2.2.2.1 hr0 hU hW⟩⟩ rfl rfl hlv.1 rfl (lv_room (Nat.le_of_ble_eq_true rfl)) dX0_bare_5 ⟨by show cells + (r.2.2.2.2.length - h.2.2.length + 1) ≤ r.2.2.2.2.length - h.2.2.length + 1; omega, by show slots + (zsum r.2.2.2.2 - zsum h.2.2 + 6) ≤ zsum r.2.2.2.2 - zsum h.2.2 + 6; omega⟩) hS2 (fun q _ hq => hq.elim) hFA (fun q _ hq => hFA q hq) ?_ (fun r u t H1 locs1 _ _ hp => hp.elim)
      intro E ce q9 ad3 t H1 locs1 ht hvm _ hBX hsz1 hkeep hS1 hcell hcv hcl
      obtain ⟨rfl, b1, b2, b3, b4⟩ := hBX
      refine vx_catch (own := RX0) (name := zNSE) hown [] ⟨0, 10, 13, 13⟩ [] (by rw [htab]; rfl) (fun z hz => by cases hz) (by decide) (by decide) (hts _ q939) (va_Nw.use rfl (hew.2.1 _ (List.mem_of_getElem? (i := 20) rfl))) hcell hcv hcl ?_
      refine lv_astore hX1 hX2 dX0_bare_13 hlv (Nat.le_of_ble_eq_true rfl) rfl (fun ls' hl' => ?_)
      refine lv_iconst hX1 hX2 dX0_bare_15 rfl ?_
      refine zendH (ad2 := ad3) B.exec B.bytes B.returns B.notSynchronized dX0_bare_16 (by omega) (by omega) (fun t' ht' => ⟨fun a ha => (b1 a ha).trans (zstr_of hstr hs2 (fun a ha => hag a ha) a ha), by rw [ht', ← ht]; exact b2, b3.weaken (fun _ q _ hq => hFA q.1 hq), b4⟩) hS1
  subst hargs
  subst hsz
  rw [← hZ] at w
  rw [lg_entry_eq]
  exact w ad s0.heap [] _ 0 0 ⟨hP, hD.self, va_S.rf, hwf, hstr, by show 0 + (h2.2.2.length + 1) ≤ (h2.2.2.length - h.2.2.length + 1) + h.2.2.length; rw [e22]; omega, by show 0 + (zsum h2.2.2 + 6) ≤ (zsum h2.2.2 - zsum h.2.2 + 6) + zsum h.2.2; rw [e22]; omega, by rw [e22]; omega, by rw [e22]; omega, fun a _ => rfl, Nat.le_refl _⟩ (zentry rfl (Nat.le_of_ble_eq_true rfl)) (zentry_ok has)
theorem H_X0_premium {l : Launch} (hl : l.stackTraces = false) {G : ZG} {ad : Nat → Nat} {h : Hp} {x o : Nat} {p0 v : Int32} {h2 : Hp} {sz : Nat} (hF : zhm B_X1_premium [Value.ref x, .int p0] x o h = some (v, h2)) (hwf : zwf h) (hix : zid h x) (hio : zid h o) (hcap : h2.2.2.length + 1 ≤ 1000000) (hstr : ∀ k, k < 13 → ad (1000000 + k) = G.2.2.1 k) :
    Met l yX0_premium (wsW_ yX0_premium cX0_premium 4 (some .int) [(0, 9, 12, 13)]) (zrmH 132 h h2) (va_Pc ([Value.ref x, .int p0, .ref o].map (zt ad)) (zPre G ad h sz)) (zQ 0 G ad h h2 sz (.int v)) (h2.2.2.length - h.2.2.length + 1) (zsum h2.2.2 - zsum h.2.2 + 6) (va_A (zws G ad h) sz) := by
  obtain ⟨hx0, r, hr, hcase⟩ := zhm_key hF
  have hle : zle h r.2.2 := W_X1_premium.1 _ _ _ hr
  have l1 := zle_len hle
  have l2 := zle_sum hle
  have e22 : h2.2.2 = r.2.2.2.2 := by
    rcases hcase with ⟨-, -, -, rfl⟩ | ⟨-, -, rfl⟩ <;> rfl
  have has : ∀ a, Value.ref a ∈ [Value.ref x, .int p0, .ref o] → zid h a := by
    intro a ha
    simp only [List.mem_cons, List.not_mem_nil, or_false, Value.ref.injEq, reduceCtorEq, false_or] at ha
    rcases ha with rfl | rfl
    · exact hix
    · exact hio
  have hasS : ∀ a, Value.ref a ∈ [Value.ref x, .int p0] → zid h a := by
    intro a ha
    simp only [List.mem_cons, List.not_mem_nil, or_false, Value.ref.injEq, reduceCtorEq] at ha
    subst ha
    exact hix
  refine zmetX (vx_ofWH (cc := cX0_premium) (maxL := 4) (ret := some .int) (hh := [(0, 9, 12, 13)]) (by decide +kernel) rfl ?_)
  intro p e s0 m args below meth c s₁ B hml hv
  obtain ⟨hargs, hsz, hP, hK, hD, hew, hex⟩ := hv
  have hts0 := atoms_spec (ws := wsW_ yX0_premium cX0_premium 4 (some .int) [(0, 9, 12, 13)]) B.pre
  have hts : ∀ w ∈ lw_all, w.before args s0 = true := fun w h => hts0 w (List.mem_cons_of_mem _ h)
  have htab : c.exceptionTable.toList = tableOf [(0, 9, 12, 13)] := vx_table (x := yX0_premium) B (hts0 _ List.mem_cons_self)
  have hown : s0.vm.findClass RX0 = some m.cls := findClass_of_methodNamed B.named
  have hX1 := B.exec
  have hX2 := B.bytes
  generalize hZ : ((p, l, e, (headSpec (wsW_ yX0_premium cX0_premium 4 (some .int) [(0, 9, 12, 13)]) (zrmH 132 h h2)).room, s0, m, args, below, meth, c, vx_MQ below (zQ 0 G ad h h2 sz (.int v)) (fun _ _ _ => False) args s0 (h2.2.2.length - h.2.2.length + 1) (zsum h2.2.2 - zsum h.2.2 + 6) (va_A (zws G ad h) sz), va_A (zws G ad h) sz, (G.1, G.2.1, G.2.2.1, G.2.2.2.1, ad, h.2.2.length), h2.2.2.length + 1, zsum h2.2.2 + 6) : ZK) = Z
  have X : zx RX0 cX0_premium 4 132 false Z := by
    rw [← hZ]
    exact ⟨B.exec, B.bytes, hml, hown, hts, hK, hew.2.1, hew, hex, fun q hq => Or.inr (by rw [← hsz]; exact hq), Nat.le_refl _, Nat.le_refl _, hcap, B.notSynchronized, fun hi => by cases hi⟩
  have hcapZ : zcap Z r.2.2 := by
    rw [← hZ]
    exact ⟨by rw [e22]; exact Nat.le_succ _, by rw [e22]; exact Nat.le_add_right _ _⟩
  have w : zw Z 4 0 (zf [Value.ref x, .int p0, .ref o]) [true, false, true] [] h := by
    rcases hcase with ⟨h3, ho, rfl, rfl⟩ | ⟨h4, rfl, rfl⟩
    · have hcall : F_X1_premium [Value.ref x, .int p0] h = some (.int (r.2.1.1 999), r.2.2) := by
        show (if h.2.2[x]? = some (0, 52) then zm_i [true, false] zfit B_X1_premium [Value.ref x, .int p0] h else none) = _
        rw [if_pos hx0]
        show ((B_X1_premium (zf [Value.ref x, .int p0]) h).bind fun r => if r.1 = 3 ∧ zfit (r.2.1.1 999) = true then some (Value.int (r.2.1.1 999), r.2.2) else none) = _
        rw [hr]
        show (if r.1 = 3 ∧ zfit (r.2.1.1 999) = true then some (Value.int (r.2.1.1 999), r.2.2) else none) = _
        rw [if_pos ⟨h3, rfl⟩]
      refine zw_aload_n (i := 2) X rfl rfl dX0_premium_0 ?_
      refine zw_const X 0 rfl dX0_premium_1 ?_
      refine zw_aload_n (i := 0) X rfl rfl dX0_premium_2 ?_
      refine zw_iload_n (i := 1) X rfl rfl dX0_premium_3 ?_
      show zw Z 4 4 _ _ (.int p0 :: .ref x :: .int 0 :: .ref o :: []) _
      refine zw_callV (as := [Value.ref x, .int p0]) (n := 1) (st := [.int 0, .ref o]) X M_X1_premium (Or.inl rfl) zrcv_vt zcls0 (Nat.le_of_ble_eq_true rfl) (Nat.le_of_ble_eq_true rfl) q1022 q1023 q1024 q89 q1025 ⟨rfl, by decide, by decide, rfl⟩ dX0_premium_4 hcall rfl hcapZ (Nat.le_of_ble_eq_true rfl) ?_
      refine zw_i2l X dX0_premium_7 ?_
      refine zw_last X dX0_premium_8 ho rfl ?_
      refine zw_goto X rfl dX0_premium_9 ?_
      refine zw_const X 0 rfl dX0_premium_15 ?_
      rw [← hZ]
      intro ad2 H locs ls cells slots hr2 hlv hok
      obtain ⟨hP2, hD2, hS2, hwf2, hs2, hc1, hc2, hc3, hc4, hag, hn0⟩ := hr2
      have hc1 : cells + (r.2.2.2.2.length + 1) ≤ (r.2.2.2.2.length - h.2.2.length + 1) + r.2.2.2.2.length := hc1
      have hc2 : slots + (zsum r.2.2.2.2 + 6) ≤ (zsum r.2.2.2.2 - zsum h.2.2 + 6) + zsum r.2.2.2.2 := hc2
      exact zendH B.exec B.bytes B.returns B.notSynchronized dX0_premium_16 (by show cells ≤ r.2.2.2.2.length - h.2.2.length + 1; omega) (by show slots ≤ zsum r.2.2.2.2 - zsum h.2.2 + 6; omega) (fun t ht => ⟨zstr_of hstr hs2 (fun a ha => hag a ha), by rw [ht]; exact hP2, hD2, hwf2⟩) hS2
    ·
      refine zw_aload_n (i := 2) X rfl rfl dX0_premium_0 ?_
      refine zw_const X 0 rfl dX0_premium_1 ?_
      refine zw_aload_n (i := 0) X rfl rfl dX0_premium_2 ?_
      refine zw_iload_n (i := 1) X rfl rfl dX0_premium_3 ?_
      show zw Z 4 4 _ _ (.int p0 :: .ref x :: .int 0 :: .ref o :: []) _
      rw [← hZ] at X ⊢
      intro ad2 H locs ls cells slots hr2 hlv hok
      have hr0 := hr2
      obtain ⟨hP2, hD2, hS2, hwf2, hs2, hc1, hc2, hc3, hc4, hag, hn0⟩ := hr2
      have hc1 : cells + (r.2.2.2.2.length + 1) ≤ (r.2.2.2.2.length - h.2.2.length + 1) + h.2.2.length := hc1
      have hc2 : slots + (zsum r.2.2.2.2 + 6) ≤ (zsum r.2.2.2.2 - zsum h.2.2 + 6) + zsum h.2.2 := hc2
      have hFA : ∀ q, va_A (zws G ad2 h) H.size q → va_A (zws G ad h) sz q := by
        intro q hq
        rcases hq with ⟨k, e, hq⟩ | hq
        · exact hD2.2 k (q, e) hq
        · exact Or.inr (by rw [← hsz]; exact Nat.le_trans hS2.1 hq)
      have hmet := zThr (y := yX1_premium) (ret := some .int) (Qc := va_Qi (S := Nat) (fun _ _ => False) (fun _ _ => True) (fun _ => False)) (by decide +kernel) rfl (Nat.le_of_ble_eq_true rfl) W_X1_premium hl (G := (G.1, G.2.1, G.2.2.1, G.2.2.2.1, ad, h.2.2.length)) (ad := ad2) (as := [Value.ref x, .int p0]) (sz := H.size) rfl hr h4 hwf2 hasS hcap hs2
      have he : (zws (G.1, G.2.1, G.2.2.1, G.2.2.2.1, ad, h.2.2.length) ad2 h)[x]? = some (ad2 x, .inr (0, zfs ad2 h x 0 52)) := by rw [zws_at hx0, zce_obj (by decide)]
      refine vx_calli (A0 := va_A (zws G ad h) sz) (vx_runV (Ts := lw_all) (own := RX0) (C := RX1) (b := ad2 x) (As := ([.int p0] : List Value).map (zt ad2)) ⟨X.1, X.2.1, X.2.2.1, X.2.2.2.1, X.2.2.2.2.1⟩ hmet (cwV 1 hts (lw_V q1022 q1023 q1024 q89 q1025) rfl rfl rfl ⟨rfl, by decide, by decide, rfl⟩ ⟨by show 131 + 1 ≤ 132; omega, by show 8 + (5 + 11) + 64 * 131 ≤ 64 * 132; omega⟩) ⟨zblind, va_recv X.2.2.2.2.2.1 hr0.1 zcls0.1 he, fun U hU hW => ⟨rfl, zstart X.2.2.2.2.2.1 X.2.2.2.2.2.2.2.1 X.2.2.2.2.2.2.2.2.1 X.2.2.2.2.2.2.2.2.2.1 hr0 hU hW⟩⟩ rfl rfl hlv.1 rfl (lv_room (Nat.le_of_ble_eq_true rfl)) dX0_premium_4 ⟨by show cells + (r.2.2.2.2.length - h.2.2.length + 1) ≤ r.2.2.2.2.length - h.2.2.length + 1; omega, by show slots + (zsum r.2.2.2.2 - zsum h.2.2 + 6) ≤ zsum r.2.2.2.2 - zsum h.2.2 + 6; omega⟩) hS2 (fun q _ hq => hq.elim) hFA (fun q _ hq => hFA q hq) ?_ (fun r u t H1 locs1 _ _ hp => hp.elim)
      intro E ce q9 ad3 t H1 locs1 ht hvm _ hBX hsz1 hkeep hS1 hcell hcv hcl
      obtain ⟨rfl, b1, b2, b3, b4⟩ := hBX
      refine vx_catch (own := RX0) (name := zNSE) hown [] ⟨0, 9, 12, 13⟩ [] (by rw [htab]; rfl) (fun z hz => by cases hz) (by decide) (by decide) (hts _ q939) (va_Nw.use rfl (hew.2.1 _ (List.mem_of_getElem? (i := 20) rfl))) hcell hcv hcl ?_
      refine lv_astore_n hX1 hX2 dX0_premium_12 rfl hlv (Nat.le_of_ble_eq_true rfl) rfl (fun ls' hl' => ?_)
      refine lv_iconst hX1 hX2 dX0_premium_13 rfl ?_
      refine zendH (ad2 := ad3) B.exec B.bytes B.returns B.notSynchronized dX0_premium_14 (by omega) (by omega) (fun t' ht' => ⟨fun a ha => (b1 a ha).trans (zstr_of hstr hs2 (fun a ha => hag a ha) a ha), by rw [ht', ← ht]; exact b2, b3.weaken (fun _ q _ hq => hFA q.1 hq), b4⟩) hS1
  subst hargs
  subst hsz
  rw [← hZ] at w
  rw [lg_entry_eq]
  exact w ad s0.heap [] _ 0 0 ⟨hP, hD.self, va_S.rf, hwf, hstr, by show 0 + (h2.2.2.length + 1) ≤ (h2.2.2.length - h.2.2.length + 1) + h.2.2.length; rw [e22]; omega, by show 0 + (zsum h2.2.2 + 6) ≤ (zsum h2.2.2 - zsum h.2.2 + 6) + zsum h.2.2; rw [e22]; omega, by rw [e22]; omega, by rw [e22]; omega, fun a _ => rfl, Nat.le_refl _⟩ (zentry rfl (Nat.le_of_ble_eq_true rfl)) (zentry_ok has)
theorem H_X0_row {l : Launch} (hl : l.stackTraces = false) {G : ZG} {ad : Nat → Nat} {h : Hp} {x o : Nat} {p0 v : Int32} {h2 : Hp} {sz : Nat} (hF : zhm B_X1_row [Value.ref x, .int p0] x o h = some (v, h2)) (hwf : zwf h) (hix : zid h x) (hio : zid h o) (hcap : h2.2.2.length + 1 ≤ 1000000) (hstr : ∀ k, k < 13 → ad (1000000 + k) = G.2.2.1 k) :
    Met l yX0_row (wsW_ yX0_row cX0_row 4 (some .int) [(0, 9, 12, 13)]) (zrmH 8 h h2) (va_Pc ([Value.ref x, .int p0, .ref o].map (zt ad)) (zPre G ad h sz)) (zQ 0 G ad h h2 sz (.int v)) (h2.2.2.length - h.2.2.length + 1) (zsum h2.2.2 - zsum h.2.2 + 6) (va_A (zws G ad h) sz) := by
  obtain ⟨hx0, r, hr, hcase⟩ := zhm_key hF
  have hle : zle h r.2.2 := W_X1_row.1 _ _ _ hr
  have l1 := zle_len hle
  have l2 := zle_sum hle
  have e22 : h2.2.2 = r.2.2.2.2 := by
    rcases hcase with ⟨-, -, -, rfl⟩ | ⟨-, -, rfl⟩ <;> rfl
  have has : ∀ a, Value.ref a ∈ [Value.ref x, .int p0, .ref o] → zid h a := by
    intro a ha
    simp only [List.mem_cons, List.not_mem_nil, or_false, Value.ref.injEq, reduceCtorEq, false_or] at ha
    rcases ha with rfl | rfl
    · exact hix
    · exact hio
  have hasS : ∀ a, Value.ref a ∈ [Value.ref x, .int p0] → zid h a := by
    intro a ha
    simp only [List.mem_cons, List.not_mem_nil, or_false, Value.ref.injEq, reduceCtorEq] at ha
    subst ha
    exact hix
  refine zmetX (vx_ofWH (cc := cX0_row) (maxL := 4) (ret := some .int) (hh := [(0, 9, 12, 13)]) (by decide +kernel) rfl ?_)
  intro p e s0 m args below meth c s₁ B hml hv
  obtain ⟨hargs, hsz, hP, hK, hD, hew, hex⟩ := hv
  have hts0 := atoms_spec (ws := wsW_ yX0_row cX0_row 4 (some .int) [(0, 9, 12, 13)]) B.pre
  have hts : ∀ w ∈ lw_all, w.before args s0 = true := fun w h => hts0 w (List.mem_cons_of_mem _ h)
  have htab : c.exceptionTable.toList = tableOf [(0, 9, 12, 13)] := vx_table (x := yX0_row) B (hts0 _ List.mem_cons_self)
  have hown : s0.vm.findClass RX0 = some m.cls := findClass_of_methodNamed B.named
  have hX1 := B.exec
  have hX2 := B.bytes
  generalize hZ : ((p, l, e, (headSpec (wsW_ yX0_row cX0_row 4 (some .int) [(0, 9, 12, 13)]) (zrmH 8 h h2)).room, s0, m, args, below, meth, c, vx_MQ below (zQ 0 G ad h h2 sz (.int v)) (fun _ _ _ => False) args s0 (h2.2.2.length - h.2.2.length + 1) (zsum h2.2.2 - zsum h.2.2 + 6) (va_A (zws G ad h) sz), va_A (zws G ad h) sz, (G.1, G.2.1, G.2.2.1, G.2.2.2.1, ad, h.2.2.length), h2.2.2.length + 1, zsum h2.2.2 + 6) : ZK) = Z
  have X : zx RX0 cX0_row 4 8 false Z := by
    rw [← hZ]
    exact ⟨B.exec, B.bytes, hml, hown, hts, hK, hew.2.1, hew, hex, fun q hq => Or.inr (by rw [← hsz]; exact hq), Nat.le_refl _, Nat.le_refl _, hcap, B.notSynchronized, fun hi => by cases hi⟩
  have hcapZ : zcap Z r.2.2 := by
    rw [← hZ]
    exact ⟨by rw [e22]; exact Nat.le_succ _, by rw [e22]; exact Nat.le_add_right _ _⟩
  have w : zw Z 4 0 (zf [Value.ref x, .int p0, .ref o]) [true, false, true] [] h := by
    rcases hcase with ⟨h3, ho, rfl, rfl⟩ | ⟨h4, rfl, rfl⟩
    · have hcall : F_X1_row [Value.ref x, .int p0] h = some (.int (r.2.1.1 999), r.2.2) := by
        show (if h.2.2[x]? = some (0, 52) then zm_i [true, false] zfit B_X1_row [Value.ref x, .int p0] h else none) = _
        rw [if_pos hx0]
        show ((B_X1_row (zf [Value.ref x, .int p0]) h).bind fun r => if r.1 = 3 ∧ zfit (r.2.1.1 999) = true then some (Value.int (r.2.1.1 999), r.2.2) else none) = _
        rw [hr]
        show (if r.1 = 3 ∧ zfit (r.2.1.1 999) = true then some (Value.int (r.2.1.1 999), r.2.2) else none) = _
        rw [if_pos ⟨h3, rfl⟩]
      refine zw_aload_n (i := 2) X rfl rfl dX0_row_0 ?_
      refine zw_const X 0 rfl dX0_row_1 ?_
      refine zw_aload_n (i := 0) X rfl rfl dX0_row_2 ?_
      refine zw_iload_n (i := 1) X rfl rfl dX0_row_3 ?_
      show zw Z 4 4 _ _ (.int p0 :: .ref x :: .int 0 :: .ref o :: []) _
      refine zw_callV (as := [Value.ref x, .int p0]) (n := 1) (st := [.int 0, .ref o]) X M_X1_row (Or.inl rfl) zrcv_vt zcls0 (Nat.le_of_ble_eq_true rfl) (Nat.le_of_ble_eq_true rfl) q1029 q1030 q1031 q89 q1032 ⟨rfl, by decide, by decide, rfl⟩ dX0_row_4 hcall rfl hcapZ (Nat.le_of_ble_eq_true rfl) ?_
      refine zw_i2l X dX0_row_7 ?_
      refine zw_last X dX0_row_8 ho rfl ?_
      refine zw_goto X rfl dX0_row_9 ?_
      refine zw_const X 0 rfl dX0_row_15 ?_
      rw [← hZ]
      intro ad2 H locs ls cells slots hr2 hlv hok
      obtain ⟨hP2, hD2, hS2, hwf2, hs2, hc1, hc2, hc3, hc4, hag, hn0⟩ := hr2
      have hc1 : cells + (r.2.2.2.2.length + 1) ≤ (r.2.2.2.2.length - h.2.2.length + 1) + r.2.2.2.2.length := hc1
      have hc2 : slots + (zsum r.2.2.2.2 + 6) ≤ (zsum r.2.2.2.2 - zsum h.2.2 + 6) + zsum r.2.2.2.2 := hc2
      exact zendH B.exec B.bytes B.returns B.notSynchronized dX0_row_16 (by show cells ≤ r.2.2.2.2.length - h.2.2.length + 1; omega) (by show slots ≤ zsum r.2.2.2.2 - zsum h.2.2 + 6; omega) (fun t ht => ⟨zstr_of hstr hs2 (fun a ha => hag a ha), by rw [ht]; exact hP2, hD2, hwf2⟩) hS2
    ·
      refine zw_aload_n (i := 2) X rfl rfl dX0_row_0 ?_
      refine zw_const X 0 rfl dX0_row_1 ?_
      refine zw_aload_n (i := 0) X rfl rfl dX0_row_2 ?_
      refine zw_iload_n (i := 1) X rfl rfl dX0_row_3 ?_
      show zw Z 4 4 _ _ (.int p0 :: .ref x :: .int 0 :: .ref o :: []) _
      rw [← hZ] at X ⊢
      intro ad2 H locs ls cells slots hr2 hlv hok
      have hr0 := hr2
      obtain ⟨hP2, hD2, hS2, hwf2, hs2, hc1, hc2, hc3, hc4, hag, hn0⟩ := hr2
      have hc1 : cells + (r.2.2.2.2.length + 1) ≤ (r.2.2.2.2.length - h.2.2.length + 1) + h.2.2.length := hc1
      have hc2 : slots + (zsum r.2.2.2.2 + 6) ≤ (zsum r.2.2.2.2 - zsum h.2.2 + 6) + zsum h.2.2 := hc2
      have hFA : ∀ q, va_A (zws G ad2 h) H.size q → va_A (zws G ad h) sz q := by
        intro q hq
        rcases hq with ⟨k, e, hq⟩ | hq
        · exact hD2.2 k (q, e) hq
        · exact Or.inr (by rw [← hsz]; exact Nat.le_trans hS2.1 hq)
      have hmet := zThr (y := yX1_row) (ret := some .int) (Qc := va_Qi (S := Nat) (fun _ _ => False) (fun _ _ => True) (fun _ => False)) (by decide +kernel) rfl (Nat.le_of_ble_eq_true rfl) W_X1_row hl (G := (G.1, G.2.1, G.2.2.1, G.2.2.2.1, ad, h.2.2.length)) (ad := ad2) (as := [Value.ref x, .int p0]) (sz := H.size) rfl hr h4 hwf2 hasS hcap hs2
      have he : (zws (G.1, G.2.1, G.2.2.1, G.2.2.2.1, ad, h.2.2.length) ad2 h)[x]? = some (ad2 x, .inr (0, zfs ad2 h x 0 52)) := by rw [zws_at hx0, zce_obj (by decide)]
      refine vx_calli (A0 := va_A (zws G ad h) sz) (vx_runV (Ts := lw_all) (own := RX0) (C := RX1) (b := ad2 x) (As := ([.int p0] : List Value).map (zt ad2)) ⟨X.1, X.2.1, X.2.2.1, X.2.2.2.1, X.2.2.2.2.1⟩ hmet (cwV 1 hts (lw_V q1029 q1030 q1031 q89 q1032) rfl rfl rfl ⟨rfl, by decide, by decide, rfl⟩ ⟨by show 7 + 1 ≤ 8; omega, by show 8 + (2 + 11) + 64 * 7 ≤ 64 * 8; omega⟩) ⟨zblind, va_recv X.2.2.2.2.2.1 hr0.1 zcls0.1 he, fun U hU hW => ⟨rfl, zstart X.2.2.2.2.2.1 X.2.2.2.2.2.2.2.1 X.2.2.2.2.2.2.2.2.1 X.2.2.2.2.2.2.2.2.2.1 hr0 hU hW⟩⟩ rfl rfl hlv.1 rfl (lv_room (Nat.le_of_ble_eq_true rfl)) dX0_row_4 ⟨by show cells + (r.2.2.2.2.length - h.2.2.length + 1) ≤ r.2.2.2.2.length - h.2.2.length + 1; omega, by show slots + (zsum r.2.2.2.2 - zsum h.2.2 + 6) ≤ zsum r.2.2.2.2 - zsum h.2.2 + 6; omega⟩) hS2 (fun q _ hq => hq.elim) hFA (fun q _ hq => hFA q hq) ?_ (fun r u t H1 locs1 _ _ hp => hp.elim)
      intro E ce q9 ad3 t H1 locs1 ht hvm _ hBX hsz1 hkeep hS1 hcell hcv hcl
      obtain ⟨rfl, b1, b2, b3, b4⟩ := hBX
      refine vx_catch (own := RX0) (name := zNSE) hown [] ⟨0, 9, 12, 13⟩ [] (by rw [htab]; rfl) (fun z hz => by cases hz) (by decide) (by decide) (hts _ q939) (va_Nw.use rfl (hew.2.1 _ (List.mem_of_getElem? (i := 20) rfl))) hcell hcv hcl ?_
      refine lv_astore_n hX1 hX2 dX0_row_12 rfl hlv (Nat.le_of_ble_eq_true rfl) rfl (fun ls' hl' => ?_)
      refine lv_iconst hX1 hX2 dX0_row_13 rfl ?_
      refine zendH (ad2 := ad3) B.exec B.bytes B.returns B.notSynchronized dX0_row_14 (by omega) (by omega) (fun t' ht' => ⟨fun a ha => (b1 a ha).trans (zstr_of hstr hs2 (fun a ha => hag a ha) a ha), by rw [ht', ← ht]; exact b2, b3.weaken (fun _ q _ hq => hFA q.1 hq), b4⟩) hS1
  subst hargs
  subst hsz
  rw [← hZ] at w
  rw [lg_entry_eq]
  exact w ad s0.heap [] _ 0 0 ⟨hP, hD.self, va_S.rf, hwf, hstr, by show 0 + (h2.2.2.length + 1) ≤ (h2.2.2.length - h.2.2.length + 1) + h.2.2.length; rw [e22]; omega, by show 0 + (zsum h2.2.2 + 6) ≤ (zsum h2.2.2 - zsum h.2.2 + 6) + zsum h.2.2; rw [e22]; omega, by rw [e22]; omega, by rw [e22]; omega, fun a _ => rfl, Nat.le_refl _⟩ (zentry rfl (Nat.le_of_ble_eq_true rfl)) (zentry_ok has)
