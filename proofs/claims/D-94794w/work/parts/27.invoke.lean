/-! CALLS, by the contract of the method called. -/
set_option maxRecDepth 100000
/-- what a call leaves on the stack -/
def zpush (rk : Nat) (v : Value) (st : List Value) : List Value := if rk = 2 then st else v :: st
section ZCALL
variable {own : String} {cc : ByteArray} {nL d pc : Nat} {ini : Bool} {L : Fr} {ts : List Bool} {st : List Value} {h h2 : Hp}
/-- behind a call -/
theorem zw_back {p : Program} {l : Launch} {e : Env} {R : Room} {s : State} {m : MethodId} {args : Array Value} {below : List Frame} {meth : Method} {c : Code} {Q : State → Prop} {A : Nat → Prop} {G G2 : ZG} {cC cS : Nat} {ad : Nat → Nat} {H : Heap} {locs : List Loc} {ls : Array Slot} {cells slots rk : Nat} {v : Value} {a9 : Array Value} {st0 : List Value}
    (hG : G2.1 = G.1 ∧ G2.2.1 = G.2.1) (hrk : rk = 0 ∨ rk = 1 ∨ rk = 2) (hA0 : ∀ q, s.heap.size ≤ q → A q)
    (hr : zr G A s R cC cS ad h H locs cells slots) (hlv : lv_has ls nL (zlv ad L ts)) (hok : zok h L ts st) (hle : zle h h2) (hcap : h2.2.2.length ≤ cC ∧ zsum h2.2.2 ≤ cS)
    (hrun : va_Run p l e R s m args below meth c H locs cells slots (h2.2.2.length - h.2.2.length) (zsum h2.2.2 - zsum h.2.2) (F0 m pc ls st0) (st.map (zt ad)) (zQ rk G2 ad h h2 H.size v a9) (va_A (zws G ad h) H.size))
    (kk : zw (p, l, e, R, s, m, args, below, meth, c, Q, A, G, cC, cS) nL (pc + 3) L ts (zpush rk v st) h2) : W p l e R s m args below meth c H locs cells slots Q (F0 m pc ls st0) := by
  obtain ⟨hP, hD, hS, hwf, hstr, hc1, hc2, hc3, hc4, hag, hn0⟩ := hr
  have l1 := zle_len hle
  have l2 := zle_sum hle
  have ews : ∀ (ad : Nat → Nat) (h : Hp), zws G2 ad h = zws G ad h := by
    intro ad h
    unfold zws zce
    rw [hG.2]
  have hFA : ∀ q, va_A (zws G ad h) H.size q → A q := by
    intro q hq
    rcases hq with ⟨k, e, hq⟩ | hq
    · exact hD.2 k (q, e) hq
    · exact hA0 q (Nat.le_trans hS.1 hq)
  have hback : ∀ (ad2 : Nat → Nat) (t : State) (H1 : Heap) (locs1 : List Loc), t.heap = H1 → zB G2 ad h h2 H.size ad2 t → va_S A s.heap H1 locs1 → zr G A s R cC cS ad2 h2 H1 locs1 (cells + (h2.2.2.length - h.2.2.length)) (slots + (zsum h2.2.2 - zsum h.2.2)) ∧ (∀ a, zid h a → ad2 a = ad a) := by
    intro ad2 t H1 locs1 ht hB hS1
    obtain ⟨b1, b2, b3, b4⟩ := hB
    rw [ews, ht, hG.1] at b2
    rw [ews, ews] at b3
    refine ⟨⟨b2, b3.weaken (fun _ q _ hq => hFA q.1 hq), hS1, b4, fun k hk => ?_, by omega, by omega, hcap.1, hcap.2, fun a ha => ?_, by omega⟩, b1⟩
    · rw [b1 (1000000 + k) (Or.inr ⟨by omega, by omega⟩)]
      exact hstr k hk
    · rw [b1 a (Or.inl (by omega))]
      exact hag a ha
  rcases hrk with rfl | rfl | rfl
  · unfold zQ at hrun
    rw [if_pos rfl] at hrun
    refine va_calli hrun hS (fun q _ hq => by rw [ews] at hq; exact hFA q hq) hFA fun r ad2 t H1 locs1 ht hvm hpost hB hz hk hS1 => ?_
    obtain ⟨hr2, hup⟩ := hback ad2 t H1 locs1 ht hB hS1
    have hpost : v = .int r := hpost
    subst hpost
    have k1 := kk ad2 H1 locs1 ls _ _ hr2 (zlv_up hlv hok hup) (zok_i (zok_up hle hok))
    have e1 : (zpush 0 (Value.int r) st).map (zt ad2) = .int r :: st.map (zt ad) := by
      show Value.int r :: st.map (zt ad2) = _
      rw [zst_up hok hup]
    rw [e1] at k1
    exact k1
  · unfold zQ at hrun
    rw [if_neg (by decide), if_pos rfl] at hrun
    refine va_callq hrun hS (fun q _ hq => by rw [ews] at hq; exact hFA q hq) hFA fun r ad2 t H1 locs1 ht hvm hpost hB hz hk hS1 => ?_
    obtain ⟨hr2, hup⟩ := hback ad2 t H1 locs1 ht hB hS1
    obtain ⟨r0, rfl, rfl, hid⟩ := hpost
    have k1 := kk ad2 H1 locs1 ls _ _ hr2 (zlv_up hlv hok hup) (zok_r (zok_up hle hok) hid)
    have e1 : (zpush 1 (va_rf r0) st).map (zt ad2) = va_rf (r0.map ad2) :: st.map (zt ad) := by
      show zt ad2 (va_rf r0) :: st.map (zt ad2) = _
      rw [zst_up hok hup, zt_rf]
    rw [e1] at k1
    exact k1
  · unfold zQ at hrun
    rw [if_neg (by decide), if_neg (by decide)] at hrun
    refine va_callv hrun hS (fun q _ hq => by rw [ews] at hq; exact hFA q hq) hFA fun ad2 t H1 locs1 ht hvm hpost hB hz hk hS1 => ?_
    obtain ⟨hr2, hup⟩ := hback ad2 t H1 locs1 ht hB hS1
    have k1 := kk ad2 H1 locs1 ls _ _ hr2 (zlv_up hlv hok hup) (zok_up hle hok)
    have e1 : (zpush 2 v st).map (zt ad2) = st.map (zt ad) := by
      show st.map (zt ad2) = _
      rw [zst_up hok hup]
    rw [e1] at k1
    exact k1
theorem zblind {G : ZG} {ad : Nat → Nat} {sz : Nat} {as : List Value} : FrameBlind (va_Pc as (zPre G ad h sz)) := by
  intro a U g mk q
  obtain ⟨q0, q1, qP, qK, qD, qw, qx⟩ := q
  exact ⟨q0, q1, qP, va_K.moved (u := U) (U := U.calling g mk a) (Vm.Alike.refl U.vm) qK, qD, zew_same (s := U) (U := U.calling g mk a) rfl qw, zex_moved (u := U) (U := U.calling g mk a) (Vm.Alike.refl U.vm) qx⟩
/-- a method's start holds at the call -/
theorem zstart {s : State} {G : ZG} {A : Nat → Prop} {R : Room} {cC cS : Nat} {ad : Nat → Nat} {H : Heap} {locs : List Loc} {cells slots : Nat} (hK : va_K G.1 zcl (ztys G) s) (hew : zew G s) (hex : zex G A s s.heap) (hA0 : ∀ q, s.heap.size ≤ q → A q) (hr : zr G A s R cC cS ad h H locs cells slots) {U : State} (hU : U.heap = H) (hW : s.WarmedH U.vm) : zPre G ad h H.size U := by
  obtain ⟨hP, hD, hS, hwf, hstr, -⟩ := hr
  have hFA : ∀ q, va_A (zws G ad h) H.size q → A q := by
    intro q hq
    rcases hq with ⟨k, e, hq⟩ | hq
    · exact hD.2 k (q, e) hq
    · exact hA0 q (Nat.le_trans hS.1 hq)
  refine ⟨by rw [hU], by rw [hU]; exact hP, va_K.moved hW.alike hK, hD.weaken (fun _ _ _ _ => trivial), zew_warm hW hew, ?_⟩
  rw [hU]
  exact zex_moved hW.alike (zex_narrow (zex_kept hex hS.2.1) hFA)
theorem zrev {ad : Nat → Nat} {as st : List Value} : (as.reverse ++ st).map (zt ad) = (as.map (zt ad)).reverse ++ st.map (zt ad) := by
  rw [List.map_append, List.map_reverse]
theorem zargs_id {as st : List Value} (hok : zok h L ts (as.reverse ++ st)) : ∀ a, Value.ref a ∈ as → zid h a := fun a ha => hok.2 a (List.mem_append_left _ (List.mem_reverse.mpr ha))
theorem zrest_ok {as st : List Value} (hok : zok h L ts (as.reverse ++ st)) : zok h L ts st := ⟨hok.1, fun a ha => hok.2 a (List.mem_append_right _ ha)⟩
/-- o.f(args): a method of the object's own class -/
theorem zw_callV {Z : ZK} {ix c N n mL rk d2 : Nat} {C : String} {T : u_T} {y : MethodName} {co : ByteArray} {ret : Option FieldType} {F : Mth} {as : List Value} {v : Value} (hX : zx own cc nL d ini Z) (hM : zMet y co mL ret rk d2 F) (hrk : rk = 0 ∨ rk = 1 ∨ rk = 2) (hrc : zrcv c N F) (hc : zcls c C T N) (hd2 : d2 + 1 ≤ d) (hmL : mL ≤ 45)
    (w1 : Cond.methodLink own ix y ∈ lw_all) (w2 : Cond.instanceMethod y ∈ lw_all) (w3 : Cond.selects C y y ∈ lw_all) (w4 : Cond.initialized C ∈ lw_all) (w5 : Cond.code y co mL ret ∈ lw_all) (hpd : y.cls = C ∧ y.cls ≠ "java/lang/invoke/MethodHandle" ∧ y.cls ≠ "java/lang/invoke/VarHandle" ∧ (parseMethodDescriptor y.desc).map (fun d => d.parameters.length) = some n) (hd : decode cc pc = .ok (.invokevirtual ix, 3))
    (hF : F as h = some (v, h2)) (hn : as.length = n + 1) (hcap : zcap Z h2) (hwt : zwt st ≤ 8) (kk : zw Z nL (pc + 3) L ts (zpush rk v st) h2) : zw Z nL pc L ts (as.reverse ++ st) h := by
  obtain ⟨o, As, rfl, ho⟩ := hrc as h _ hF
  obtain ⟨p, l, e, R, s, m, args, below, meth, cd, Q, A, G, cC, cS⟩ := Z
  intro ad H locs ls cells slots hr hlv hok
  have hle := hM.1 _ _ _ _ hF
  have l1 := zle_len hle
  have l2 := zle_sum hle
  have hcap1 : h2.2.2.length ≤ cC := hcap.1
  have hcap2 : zsum h2.2.2 ≤ cS := hcap.2
  have hcC : cC ≤ 1000000 := hX.2.2.2.2.2.2.2.2.2.2.2.2.1
  have r1 : d ≤ R.frames := hX.2.2.2.2.2.2.2.2.2.2.1
  have r2 : 64 * d ≤ R.locals := hX.2.2.2.2.2.2.2.2.2.2.2.1
  have r3 := hr.2.2.2.2.2.1
  have r4 := hr.2.2.2.2.2.2.1
  have he : (zws G ad h)[o]? = some (ad o, .inr (c, zfs ad h o c N)) := by rw [zws_at ho, zce_obj hc.2.1]
  have hmet := hM.2 l G ad h _ v h2 H.size hF hr.2.2.2.1 (zargs_id hok) (by omega) hr.2.2.2.2.1
  rw [zrev]
  refine zw_back (G2 := G) ⟨rfl, rfl⟩ hrk hX.2.2.2.2.2.2.2.2.2.1 hr hlv (zrest_ok hok) hle ⟨hcap1, hcap2⟩ (va_runV (Ts := lw_all) (own := own) (C := C) (b := ad o) (As := As.map (zt ad)) ⟨hX.1, hX.2.1, hX.2.2.1, hX.2.2.2.1, hX.2.2.2.2.1⟩ hmet (cwV n hX.2.2.2.2.1 (lw_V w1 w2 w3 w4 w5) rfl rfl rfl hpd ⟨by show d2 + 1 ≤ R.frames; omega, by show 8 + (mL + 11) + 64 * d2 ≤ R.locals; omega⟩) ⟨zblind, va_recv hX.2.2.2.2.2.1 hr.1 hc.1 he, fun U hU hW => ⟨rfl, zstart hX.2.2.2.2.2.1 hX.2.2.2.2.2.2.2.1 hX.2.2.2.2.2.2.2.2.1 hX.2.2.2.2.2.2.2.2.2.1 hr hU hW⟩⟩ rfl ?_ hlv.1 ?_ (lv_room (by rw [zwt_t]; exact hwt)) hd ⟨by omega, by omega⟩) kk
  · rw [List.length_map]
    have : (Value.ref o :: As).length = n + 1 := hn
    rw [List.length_cons] at this
    omega
  · show (List.map (zt ad) (Value.ref o :: As)).reverse ++ List.map (zt ad) st = _
    rw [List.map_cons, List.reverse_cons, List.append_assoc]
    rfl
/-- f(args): static -/
theorem zw_callS {Z : ZK} {ix n mL rk d2 : Nat} {y : MethodName} {co : ByteArray} {ret : Option FieldType} {F : Mth} {as : List Value} {v : Value} (hX : zx own cc nL d ini Z) (hM : zMet y co mL ret rk d2 F) (hrk : rk = 0 ∨ rk = 1 ∨ rk = 2) (hd2 : d2 + 1 ≤ d) (hmL : mL ≤ 45)
    (w1 : Cond.methodLink own ix y ∈ lw_all) (w2 : Cond.static y ∈ lw_all) (w4 : Cond.initialized y.cls ∈ lw_all) (w5 : Cond.code y co mL ret ∈ lw_all) (hpd : y.cls ≠ "java/lang/invoke/MethodHandle" ∧ y.cls ≠ "java/lang/invoke/VarHandle" ∧ (parseMethodDescriptor y.desc).map (fun d => d.parameters.length) = some n) (hd : decode cc pc = .ok (.invokestatic ix, 3))
    (hF : F as h = some (v, h2)) (hn : as.length = n) (hcap : zcap Z h2) (hwt : zwt st ≤ 8) (kk : zw Z nL (pc + 3) L ts (zpush rk v st) h2) : zw Z nL pc L ts (as.reverse ++ st) h := by
  obtain ⟨p, l, e, R, s, m, args, below, meth, cd, Q, A, G, cC, cS⟩ := Z
  intro ad H locs ls cells slots hr hlv hok
  have hle := hM.1 _ _ _ _ hF
  have l1 := zle_len hle
  have l2 := zle_sum hle
  have hcap1 : h2.2.2.length ≤ cC := hcap.1
  have hcap2 : zsum h2.2.2 ≤ cS := hcap.2
  have hcC : cC ≤ 1000000 := hX.2.2.2.2.2.2.2.2.2.2.2.2.1
  have r1 : d ≤ R.frames := hX.2.2.2.2.2.2.2.2.2.2.1
  have r2 : 64 * d ≤ R.locals := hX.2.2.2.2.2.2.2.2.2.2.2.1
  have r3 := hr.2.2.2.2.2.1
  have r4 := hr.2.2.2.2.2.2.1
  have hmet := hM.2 l G ad h _ v h2 H.size hF hr.2.2.2.1 (zargs_id hok) (by omega) hr.2.2.2.2.1
  rw [zrev]
  exact zw_back (G2 := G) ⟨rfl, rfl⟩ hrk hX.2.2.2.2.2.2.2.2.2.1 hr hlv (zrest_ok hok) hle ⟨hcap1, hcap2⟩ (va_runS (Ts := lw_all) (own := own) (As := as.map (zt ad)) ⟨hX.1, hX.2.1, hX.2.2.1, hX.2.2.2.1, hX.2.2.2.2.1⟩ hmet (va_cwS n hX.2.2.2.2.1 (lw_S w1 w2 w4 w5) rfl rfl rfl hpd ⟨by show d2 + 1 ≤ R.frames; omega, by show 8 + (mL + 11) + 64 * d2 ≤ R.locals; omega⟩) ⟨zblind, fun U hU hW => ⟨rfl, zstart hX.2.2.2.2.2.1 hX.2.2.2.2.2.2.2.1 hX.2.2.2.2.2.2.2.2.1 hX.2.2.2.2.2.2.2.2.2.1 hr hU hW⟩⟩ rfl (by rw [List.length_map]; exact hn) hlv.1 rfl (lv_room (by rw [zwt_t]; exact hwt)) hd ⟨by omega, by omega⟩) kk
/-- a constructor: plainly linked, or a nest mate's -/
theorem zw_callI {Z : ZK} {ix n mL d2 : Nat} {y : MethodName} {co : ByteArray} {F : Mth} {o : Nat} {As : List Value} {v : Value} (hX : zx own cc nL d ini Z) (hM : zMet y co mL none 2 d2 F) (hd2 : d2 + 1 ≤ d) (hmL : mL ≤ 45) (hnm : y.name = "<init>")
    (w1 : Cond.methodLink own ix y ∈ lw_all ∨ Cond.methodLinkNest own ix y "SnowForSummer" ∈ znw) (w2 : Cond.instanceMethod y ∈ lw_all) (w4 : Cond.initialized y.cls ∈ lw_all) (w5 : Cond.code y co mL none ∈ lw_all) (hpd : y.cls ≠ "java/lang/invoke/MethodHandle" ∧ y.cls ≠ "java/lang/invoke/VarHandle" ∧ (parseMethodDescriptor y.desc).map (fun d => d.parameters.length) = some n) (hd : decode cc pc = .ok (.invokespecial ix, 3))
    (hF : F (.ref o :: As) h = some (v, h2)) (hn : As.length = n) (hcap : zcap Z h2) (hwt : zwt st ≤ 8) (kk : zw Z nL (pc + 3) L ts st h2) : zw Z nL pc L ts (As.reverse ++ .ref o :: st) h := by
  obtain ⟨p, l, e, R, s, m, args, below, meth, cd, Q, A, G, cC, cS⟩ := Z
  intro ad H locs ls cells slots hr hlv hok
  have hle := hM.1 _ _ _ _ hF
  have l1 := zle_len hle
  have l2 := zle_sum hle
  have hcap1 : h2.2.2.length ≤ cC := hcap.1
  have hcap2 : zsum h2.2.2 ≤ cS := hcap.2
  have hcC : cC ≤ 1000000 := hX.2.2.2.2.2.2.2.2.2.2.2.2.1
  have r1 : d ≤ R.frames := hX.2.2.2.2.2.2.2.2.2.2.1
  have r2 : 64 * d ≤ R.locals := hX.2.2.2.2.2.2.2.2.2.2.2.1
  have r3 := hr.2.2.2.2.2.1
  have r4 := hr.2.2.2.2.2.2.1
  have hok2 : zok h L ts ((Value.ref o :: As).reverse ++ st) := by rw [List.reverse_cons, List.append_assoc]; exact hok
  have hmet := hM.2 l G ad h _ v h2 H.size hF hr.2.2.2.1 (zargs_id hok2) (by omega) hr.2.2.2.2.1
  have est : (As.reverse ++ .ref o :: st).map (zt ad) = (As.map (zt ad)).reverse ++ .ref (ad o) :: st.map (zt ad) := by rw [zrev]; rfl
  rw [est]
  have hPre : PreS s H (va_Pc ((Value.ref o :: As).map (zt ad)) (zPre G ad h H.size)) (.ref (ad o) :: As.map (zt ad)) := ⟨zblind, fun U hU hW => ⟨rfl, zstart hX.2.2.2.2.2.1 hX.2.2.2.2.2.2.2.1 hX.2.2.2.2.2.2.2.2.1 hX.2.2.2.2.2.2.2.2.2.1 hr hU hW⟩⟩
  have hroom : (zrm d2 h h2).frames + 1 ≤ R.frames ∧ 8 + (mL + 11) + (zrm d2 h h2).locals ≤ R.locals := ⟨by show d2 + 1 ≤ R.frames; omega, by show 8 + (mL + 11) + 64 * d2 ≤ R.locals; omega⟩
  have hw := hX.2.2.2.2.1
  rcases w1 with w1 | w1
  · exact zw_back (G2 := G) (rk := 2) ⟨rfl, rfl⟩ (Or.inr (Or.inr rfl)) hX.2.2.2.2.2.2.2.2.2.1 hr hlv (zrest_ok hok2) hle ⟨hcap1, hcap2⟩ (va_runI (Ts := lw_all) (own := own) (As := As.map (zt ad)) ⟨hX.1, hX.2.1, hX.2.2.1, hX.2.2.2.1, hw⟩ hmet (cwI n hw (lw_meth w5) rfl rfl rfl (hw _ w4) (hw _ w1) (hw _ w2) hnm hpd hroom) hPre rfl (by rw [List.length_map]; exact hn) hlv.1 rfl (lv_room (by rw [zwt_t]; exact hwt)) hd ⟨by omega, by omega⟩) kk
  · exact zw_back (G2 := G) (rk := 2) ⟨rfl, rfl⟩ (Or.inr (Or.inr rfl)) hX.2.2.2.2.2.2.2.2.2.1 hr hlv (zrest_ok hok2) hle ⟨hcap1, hcap2⟩ (va_runIN (Ts := lw_all) (own := own) (As := As.map (zt ad)) ⟨hX.1, hX.2.1, hX.2.2.1, hX.2.2.2.1, hw⟩ hmet ⟨va_cnB n hw (lw_meth w5) rfl rfl rfl (hX.2.2.2.2.2.2.1 _ w1) (hw _ w4) hpd hroom, hnm, hw _ w2⟩ hPre rfl (by rw [List.length_map]; exact hn) hlv.1 rfl (lv_room (by rw [zwt_t]; exact hwt)) hd ⟨by omega, by omega⟩) kk
end ZCALL
