/-! TEXTS: constants, indexOf. -/
set_option maxRecDepth 100000
/-- a text's number; the number of its bytes -/
def zstq (a : Nat) : Bool := decide (1000000 ≤ a) && decide (a < 1000006)
def zbyq (a : Nat) : Bool := decide (1000006 ≤ a) && decide (a < 1000012)
def ze_no : ZI := fun _ _ => none
/-- String.COMPACT_STRINGS -/
def ze_gs : ZI := fun _ h => some (1, h)
/-- a text's coder, its bytes, how many they are, one of them -/
def ze_sc (e : ZR) : ZI := fun L h => (e L h).bind fun r => match r.1 with
  | none => none
  | some a => if zstq a = true then some (0, r.2) else none
def zr_sv (e : ZR) : ZR := fun L h => (e L h).bind fun r => match r.1 with
  | none => none
  | some a => if zstq a = true then some (some (a + 6), r.2) else none
def ze_sl (e : ZR) : ZI := fun L h => (e L h).bind fun r => match r.1 with
  | none => none
  | some a => if zbyq a = true then some (Int32.ofNat (zslen.getD (a - 1000006) 0), r.2) else none
def ze_sb (e : ZR) (i : ZI) : ZI := fun L h => (e L h).bind fun r => (i L r.2).bind fun j => match r.1 with
  | none => none
  | some a => if zbyq a = true ∧ zinb j.1 (zslen.getD (a - 1000006) 0) = true then some ((zsbyt.getD (a - 1000006) []).getD j.1.toNatClampNeg 0, j.2) else none
/-- a method of a text -/
def zvs (F : Mth) : Mth := fun as h => match as with
  | .ref o :: _ => if zstq o = true then F as h else none
  | _ => none
def zrcs (F : Mth) : Prop := ∀ as h r, F as h = some r → ∃ o rest, as = .ref o :: rest ∧ zstq o = true
theorem zvs_key {F : Mth} {as : List Value} {h : Hp} {r : Value × Hp} (e : zvs F as h = some r) : F as h = some r ∧ ∃ o rest, as = .ref o :: rest ∧ zstq o = true := by
  unfold zvs at e
  cases as with
  | nil => cases e
  | cons v rest =>
    cases v with
    | ref o =>
      dsimp only at e
      by_cases hh : zstq o = true
      · rw [if_pos hh] at e
        exact ⟨e, o, rest, rfl, hh⟩
      · rw [if_neg hh] at e
        cases e
    | _ => cases e
theorem zrcs_vs {F : Mth} : zrcs (zvs F) := fun _ _ _ e => (zvs_key e).2
theorem zMet_vs {y : MethodName} {co : ByteArray} {mL : Nat} {ret : Option FieldType} {rk d : Nat} {F : Mth} (hM : zMet y co mL ret rk d F) : zMet y co mL ret rk d (zvs F) :=
  ⟨fun as h v h2 e => hM.1 as h v h2 (zvs_key e).1, fun l G ad h as v h2 sz e => hM.2 l G ad h as v h2 sz (zvs_key e).1⟩
theorem zvs_cat {F : Mth} (hF : ∀ vs h v h2, F vs h = some (v, h2) → v.category = 1) : ∀ vs h v h2, zvs F vs h = some (v, h2) → v.category = 1 := fun vs h v h2 e => hF vs h v h2 (zvs_key e).1
theorem znr_B : ∀ v : Int32, zfitZ v = true → narrow .byte (.int v) = .int v := fun v h => by
  rcases zfitZ_or h with rfl | rfl <;> decide
theorem zstq_of {a : Nat} (h : zstq a = true) : ∃ k, k < 6 ∧ a = 1000000 + k := by
  unfold zstq at h
  rw [Bool.and_eq_true, decide_eq_true_eq, decide_eq_true_eq] at h
  exact ⟨a - 1000000, by omega, by omega⟩
theorem zbyq_of {a : Nat} (h : zbyq a = true) : ∃ k, k < 6 ∧ a = 1000006 + k := by
  unfold zbyq at h
  rw [Bool.and_eq_true, decide_eq_true_eq, decide_eq_true_eq] at h
  exact ⟨a - 1000006, by omega, by omega⟩
section ZSTR
variable {cc : ByteArray} {nL d pc : Nat} {ini : Bool} {ts : List Bool} {a b c k : Nat}
theorem zj_str {k0 ix : Nat} (hk : k0 < 6) (hix : ix = zsix k0) (hd : decode cc a = .ok (.ldc ix, 2)) : zj_R RX1 cc nL d ini ts k a (a + 2) (zr_str k0) :=
  ⟨fun L h v h' ee => by cases ee; exact zle_rfl, fun Z hX L st h v h' ee hc hk2 kk => by
    cases ee
    obtain ⟨p, l, e, R, s, m, args, below, meth, co, Q, A, G, cC, cS⟩ := Z
    intro ad H locs ls cells slots hr hlv hok
    have k1 := kk ad H locs ls cells slots hr hlv (zok_r hok (fun q hq => by cases hq; exact Or.inr ⟨by omega, by omega⟩))
    have e1 : (va_rf (some (1000000 + k0)) :: st).map (zt ad) = .ref (G.2.2.1 k0) :: st.map (zt ad) := by
      rw [List.map_cons, zt_rf]
      show Value.ref (ad (1000000 + k0)) :: _ = _
      rw [hr.2.2.2.2.1 k0 (by omega)]
    rw [e1] at k1
    subst hix
    exact va_ldcS hX.1 hX.2.1 hX.2.2.2.1 (hX.2.2.2.2.2.2.2.1.1 k0 hk) hd k1⟩
theorem va_ldcSw {p : Program} {l : Launch} {e : Env} {R : Room} {s : State} {m : MethodId} {args : Array Value} {below : List Frame} {meth : Method} {c : Code} {H : Heap} {locs : List Loc} {cells slots : Nat} {Q : State → Prop} {ls : Array Slot} {rest : List Value} (hexec : p.tables.exec = Jvm.exec) (hb : c.code = cc) {own tx : String} {index q : Nat} (hown : s.vm.findClass own = some m.cls) (hZ : vk_R own index tx q s) (hdg : decode cc pc = .ok (.ldc_w index, 3))
    (k : W p l e R s m args below meth c H locs cells slots Q (F0 m (pc + 3) ls (.ref q :: rest))) : W p l e R s m args below meth c H locs cells slots Q (F0 m pc ls rest) := by
  intro T hT X
  obtain ⟨t, a1, b1⟩ := k T hT X
  exact ⟨t, X.ldcStringW hexec hown (text := tx) (a := q) hZ.1 hZ.2 (g := F0 m pc ls rest) rfl (by rw [hb]; exact hdg) t a1, b1⟩
theorem zj_strw {k0 ix : Nat} (hk : k0 < 6) (hix : ix = zsix k0) (hd : decode cc a = .ok (.ldc_w ix, 3)) : zj_R RX1 cc nL d ini ts k a (a + 3) (zr_str k0) :=
  ⟨fun L h v h' ee => by cases ee; exact zle_rfl, fun Z hX L st h v h' ee hc hk2 kk => by
    cases ee
    obtain ⟨p, l, e, R, s, m, args, below, meth, co, Q, A, G, cC, cS⟩ := Z
    intro ad H locs ls cells slots hr hlv hok
    have k1 := kk ad H locs ls cells slots hr hlv (zok_r hok (fun q hq => by cases hq; exact Or.inr ⟨by omega, by omega⟩))
    have e1 : (va_rf (some (1000000 + k0)) :: st).map (zt ad) = .ref (G.2.2.1 k0) :: st.map (zt ad) := by
      rw [List.map_cons, zt_rf]
      show Value.ref (ad (1000000 + k0)) :: _ = _
      rw [hr.2.2.2.2.1 k0 (by omega)]
    rw [e1] at k1
    subst hix
    exact va_ldcSw hX.1 hX.2.1 hX.2.2.2.1 (hX.2.2.2.2.2.2.2.1.1 k0 hk) hd k1⟩
theorem zj_no {own : String} {x : Nat} : zj_I own cc nL d ini ts k a x ze_no := ⟨fun _ _ _ _ e => (by cases e), fun _ _ _ _ _ _ _ e => (by cases e)⟩
theorem zj_gs {ix : Nat} (hl : Cond.fieldLink RJ1 ix "java/lang/String" "COMPACT_STRINGS" "Z" ∈ lw_all) (hd : decode cc a = .ok (.getstatic ix, 3)) : zj_I RJ1 cc nL d ini ts k a (a + 3) ze_gs :=
  ⟨fun L h v h' ee => by cases ee; exact zle_rfl, fun Z hX L st h v h' ee hc hk2 kk => by
    cases ee
    obtain ⟨p, l, e, R, s, m, args, below, meth, co, Q, A, G, cC, cS⟩ := Z
    intro ad H locs ls cells slots hr hlv hok
    exact va_gets hX.1 hX.2.1 hX.2.2.2.2.2.2.2.2.1.2.1 hr.2.2.1 hX.2.2.2.1 (hX.2.2.2.2.1 _ hl) (fun x q => q) hd (kk ad H locs ls cells slots hr hlv (zok_i hok))⟩
theorem zs1_key {X : Type} {e : ZR} {f : Nat → Bool} {g : Nat → X} {L : Fr} {h : Hp} {v : X} {h' : Hp} (ee : ((e L h).bind fun r => match r.1 with
  | none => none
  | some a => if f a = true then some (g a, r.2) else none) = some (v, h')) : ∃ o, e L h = some (some o, h') ∧ f o = true ∧ v = g o := by
  obtain ⟨⟨o, h2⟩, q1, q2⟩ := Option.bind_eq_some_iff.mp ee
  cases o with
  | none => cases q2
  | some o =>
    dsimp only at q2
    by_cases hh : f o = true
    · rw [if_pos hh] at q2
      cases q2
      exact ⟨o, q1, hh, rfl⟩
    · rw [if_neg hh] at q2
      cases q2
theorem zj_sc {e : ZR} {ix : Nat} (h1 : zj_R RJ1 cc nL d ini ts k a b e) (hl : Cond.fieldLink RJ1 ix "java/lang/String" "coder" "B" ∈ lw_all) (hd : decode cc b = .ok (.getfield ix, 3)) : zj_I RJ1 cc nL d ini ts k a (b + 3) (ze_sc e) := by
  refine ⟨fun L h v h' ee => ?_, fun Z hX L st h v h' ee hc hk kk => ?_⟩
  · obtain ⟨o, q1, -⟩ := zs1_key ee
    exact h1.1 L h _ _ q1
  · obtain ⟨o, q1, q2, rfl⟩ := zs1_key ee
    obtain ⟨j, hj, rfl⟩ := zstq_of q2
    refine h1.2 Z hX L st h _ h' q1 hc hk ?_
    obtain ⟨p, l, e, R, s, m, args, below, meth, co, Q, A, G, cC, cS⟩ := Z
    intro ad H locs ls cells slots hr hlv hok
    have e1 : (va_rf (some (1000000 + j)) :: st).map (zt ad) = .ref (G.2.2.1 j) :: st.map (zt ad) := by
      rw [List.map_cons, zt_rf]
      show Value.ref (ad (1000000 + j)) :: _ = _
      rw [hr.2.2.2.2.1 j (by omega)]
    rw [e1]
    exact vk_getf hX.1 hX.2.1 (hX.2.2.2.2.2.2.2.2.1.1.1 j hj).2.1 hr.2.2.1 hX.2.2.2.1 (hX.2.2.2.2.1 _ hl) (fun x q => q) hd (kk ad H locs ls cells slots hr hlv (zok_i (zok_tl hok)))
theorem zj_sv {e : ZR} {ix : Nat} (h1 : zj_R RJ1 cc nL d ini ts k a b e) (hl : Cond.fieldLink RJ1 ix "java/lang/String" "value" "[B" ∈ lw_all) (hd : decode cc b = .ok (.getfield ix, 3)) : zj_R RJ1 cc nL d ini ts k a (b + 3) (zr_sv e) := by
  refine ⟨fun L h v h' ee => ?_, fun Z hX L st h v h' ee hc hk kk => ?_⟩
  · obtain ⟨o, q1, -⟩ := zs1_key (g := fun a => some (a + 6)) ee
    exact h1.1 L h _ _ q1
  · obtain ⟨o, q1, q2, rfl⟩ := zs1_key (g := fun a => some (a + 6)) ee
    obtain ⟨j, hj, rfl⟩ := zstq_of q2
    refine h1.2 Z hX L st h _ h' q1 hc hk ?_
    obtain ⟨p, l, e, R, s, m, args, below, meth, co, Q, A, G, cC, cS⟩ := Z
    intro ad H locs ls cells slots hr hlv hok
    have e1 : (va_rf (some (1000000 + j)) :: st).map (zt ad) = .ref (G.2.2.1 j) :: st.map (zt ad) := by
      rw [List.map_cons, zt_rf]
      show Value.ref (ad (1000000 + j)) :: _ = _
      rw [hr.2.2.2.2.1 j (by omega)]
    rw [e1]
    have k1 := kk ad H locs ls cells slots hr hlv (zok_r (zok_tl hok) (fun q hq => by cases hq; exact Or.inr ⟨by omega, by omega⟩))
    have e2 : (va_rf (some (1000000 + j + 6)) :: st).map (zt ad) = .ref (G.2.2.2.1 j) :: st.map (zt ad) := by
      rw [List.map_cons, zt_rf]
      show Value.ref (ad (1000000 + j + 6)) :: _ = _
      rw [show 1000000 + j + 6 = 1000000 + (6 + j) by omega, hr.2.2.2.2.1 (6 + j) (by omega), hX.2.2.2.2.2.2.2.1.2.2.2 j hj]
    rw [e2] at k1
    exact vk_getf hX.1 hX.2.1 (hX.2.2.2.2.2.2.2.2.1.1.1 j hj).2.2.1 hr.2.2.1 hX.2.2.2.1 (hX.2.2.2.2.1 _ hl) (fun x q => q) hd k1
theorem zj_sl {own : String} {e : ZR} (h1 : zj_R own cc nL d ini ts k a b e) (hd : decode cc b = .ok (.arraylength, 1)) : zj_I own cc nL d ini ts k a (b + 1) (ze_sl e) := by
  refine ⟨fun L h v h' ee => ?_, fun Z hX L st h v h' ee hc hk kk => ?_⟩
  · obtain ⟨o, q1, -⟩ := zs1_key (g := fun a => Int32.ofNat (zslen.getD (a - 1000006) 0)) ee
    exact h1.1 L h _ _ q1
  · obtain ⟨o, q1, q2, rfl⟩ := zs1_key (g := fun a => Int32.ofNat (zslen.getD (a - 1000006) 0)) ee
    obtain ⟨j, hj, rfl⟩ := zbyq_of q2
    refine h1.2 Z hX L st h _ h' q1 hc hk ?_
    obtain ⟨p, l, e, R, s, m, args, below, meth, co, Q, A, G, cC, cS⟩ := Z
    intro ad H locs ls cells slots hr hlv hok
    have e1 : (va_rf (some (1000006 + j)) :: st).map (zt ad) = .ref (G.2.2.2.1 j) :: st.map (zt ad) := by
      rw [List.map_cons, zt_rf]
      show Value.ref (ad (1000006 + j)) :: _ = _
      rw [show 1000006 + j = 1000000 + (6 + j) by omega, hr.2.2.2.2.1 (6 + j) (by omega), hX.2.2.2.2.2.2.2.1.2.2.2 j hj]
    rw [e1]
    refine va_tlen hX.1 hX.2.1 (hX.2.2.2.2.2.2.2.2.1.1.1 j hj).2.2.2 hr.2.2.1 rfl hd ?_
    have e3 : 1000006 + j - 1000006 = j := by omega
    rw [e3] at kk
    exact kk ad H locs ls cells slots hr hlv (zok_i (zok_tl hok))
theorem zj_sb {own : String} {e : ZR} {i : ZI} (h1 : zj_R own cc nL d ini ts k a b e) (h2 : zj_I own cc nL d ini ts (k + 1) b c i) (hd : decode cc c = .ok (.baload, 1)) : zj_I own cc nL d ini ts k a (c + 1) (ze_sb e i) := by
  have key : ∀ L h v h', ze_sb e i L h = some (v, h') → ∃ j h1 q, j < 6 ∧ e L h = some (some (1000006 + j), h1) ∧ i L h1 = some (q, h') ∧ zinb q (zslen.getD j 0) = true ∧ v = (zsbyt.getD j []).getD q.toNatClampNeg 0 := by
    intro L h v h' ee
    obtain ⟨⟨o, g1⟩, q1, q2⟩ := Option.bind_eq_some_iff.mp ee
    obtain ⟨⟨q, g2⟩, q3, q4⟩ := Option.bind_eq_some_iff.mp q2
    cases o with
    | none => cases q4
    | some o =>
      dsimp only at q3 q4
      by_cases hh : zbyq o = true ∧ zinb q (zslen.getD (o - 1000006) 0) = true
      · rw [if_pos hh] at q4
        obtain ⟨j, hj, rfl⟩ := zbyq_of hh.1
        have e3 : 1000006 + j - 1000006 = j := by omega
        have hh2 := hh.2
        rw [e3] at hh2 q4
        obtain ⟨e4, e5⟩ := Prod.mk.inj (Option.some.inj q4)
        exact ⟨j, g1, q, hj, q1, by rw [q3, e5], hh2, e4.symm⟩
      · rw [if_neg hh] at q4
        cases q4
  refine ⟨fun L h v h' ee => ?_, fun Z hX L st h v h' ee hc hk kk => ?_⟩
  · obtain ⟨j, g1, q, hj, q1, q2, -⟩ := key L h v h' ee
    exact zle_trans (h1.1 L h _ _ q1) (h2.1 L _ _ _ q2)
  · obtain ⟨j, g1, q, hj, q1, q2, q3, rfl⟩ := key L h v h' ee
    refine h1.2 Z hX L st h _ g1 q1 (zcap_le (h2.1 L _ _ _ q2) hc) hk ?_
    refine h2.2 Z hX L _ g1 _ h' q2 hc (by rw [zcat_r1]; omega) ?_
    obtain ⟨p, l, e, R, s, m, args, below, meth, co, Q, A, G, cC, cS⟩ := Z
    intro ad H locs ls cells slots hr hlv hok
    have e1 : (.int q :: va_rf (some (1000006 + j)) :: st).map (zt ad) = .int q :: .ref (G.2.2.2.1 j) :: st.map (zt ad) := by
      rw [List.map_cons, List.map_cons, zt_rf]
      show Value.int q :: Value.ref (ad (1000006 + j)) :: _ = _
      rw [show 1000006 + j = 1000000 + (6 + j) by omega, hr.2.2.2.2.1 (6 + j) (by omega), hX.2.2.2.2.2.2.2.1.2.2.2 j hj]
    rw [e1]
    exact va_tb hX.1 hX.2.1 (hX.2.2.2.2.2.2.2.2.1.1.1 j hj).2.2.2 hr.2.2.1 (zinb_in q3) rfl hd (kk ad H locs ls cells slots hr hlv (zok_i (zok_tl (zok_tl hok))))
end ZSTR
/-! calls of a text's methods -/
def zlkT (own : String) (ix n rk dF : Nat) (F : Mth) : Prop := ∃ (y : MethodName) (co : ByteArray) (mL : Nat) (ret : Option FieldType), zMet y co mL ret rk dF F ∧ zrcs F ∧ mL ≤ 45 ∧ Cond.methodLink own ix y ∈ lw_all ∧ Cond.instanceMethod y ∈ lw_all ∧ Cond.selects "java/lang/String" y y ∈ lw_all ∧ Cond.initialized "java/lang/String" ∈ lw_all ∧ Cond.code y co mL ret ∈ lw_all ∧ y.cls = "java/lang/String" ∧ y.cls ≠ "java/lang/invoke/MethodHandle" ∧ y.cls ≠ "java/lang/invoke/VarHandle" ∧ (parseMethodDescriptor y.desc).map (fun d => d.parameters.length) = some n
section ZTX
variable {own : String} {cc : ByteArray} {nL d pc : Nat} {ini : Bool} {L : Fr} {ts : List Bool} {st : List Value} {h h2 : Hp}
theorem zw_callT {Z : ZK} {ix n mL rk d2 : Nat} {y : MethodName} {co : ByteArray} {ret : Option FieldType} {F : Mth} {as : List Value} {v : Value} (hX : zx own cc nL d ini Z) (hM : zMet y co mL ret rk d2 F) (hrk : rk = 0 ∨ rk = 1 ∨ rk = 2) (hrc : zrcs F) (hd2 : d2 + 1 ≤ d) (hmL : mL ≤ 45)
    (w1 : Cond.methodLink own ix y ∈ lw_all) (w2 : Cond.instanceMethod y ∈ lw_all) (w3 : Cond.selects "java/lang/String" y y ∈ lw_all) (w4 : Cond.initialized "java/lang/String" ∈ lw_all) (w5 : Cond.code y co mL ret ∈ lw_all) (hpd : y.cls = "java/lang/String" ∧ y.cls ≠ "java/lang/invoke/MethodHandle" ∧ y.cls ≠ "java/lang/invoke/VarHandle" ∧ (parseMethodDescriptor y.desc).map (fun d => d.parameters.length) = some n) (hd : decode cc pc = .ok (.invokevirtual ix, 3))
    (hF : F as h = some (v, h2)) (hn : as.length = n + 1) (hcap : zcap Z h2) (hwt : zwt st ≤ 8) (kk : zw Z nL (pc + 3) L ts (zpush rk v st) h2) : zw Z nL pc L ts (as.reverse ++ st) h := by
  obtain ⟨o, As, rfl, ho⟩ := hrc as h _ hF
  obtain ⟨j, hj, rfl⟩ := zstq_of ho
  obtain ⟨p, l, e, R, s, m, args, below, meth, cd, Q, A, G, cC, cS⟩ := Z
  intro ad H locs ls cells slots hr hlv hok
  have hle := hM.1 _ _ _ _ hF
  have l1 := zle_len hle
  have l2 := zle_sum hle
  have hcap1 : h2.2.2.length ≤ cC := hcap.1
  have hcap2 : zsum h2.2.2 ≤ cS := hcap.2
  have hcC : cC ≤ 1000000 := hX.2.2.2.2.2.2.2.2.2.2.2.2.1
  have r1 : d ≤ R.frames := hX.2.2.2.2.2.2.2.2.2.2.1
  have r2 : 64 * d ≤ R.locals := hX.2.2.2.2.2.2.2.2.2.2.2.1
  have r3 := hr.2.2.2.2.2.1
  have r4 := hr.2.2.2.2.2.2.1
  have hmet := hM.2 l G ad h _ v h2 H.size hF hr.2.2.2.1 (zargs_id hok) (by omega) hr.2.2.2.2.1
  have hrecv : ∃ cell : Cell, H[ad (1000000 + j)]? = some cell ∧ cell.vm.isStatics = false ∧ s.vm.findClass "java/lang/String" = some cell.cls := by
    rw [hr.2.2.2.2.1 j (by omega)]
    exact vk_recv hX.2.2.2.2.2.2.2.2.1.1 hj hr.2.2.1
  rw [zrev]
  refine zw_back (G2 := G) ⟨rfl, rfl⟩ hrk hX.2.2.2.2.2.2.2.2.2.1 hr hlv (zrest_ok hok) hle ⟨hcap1, hcap2⟩ (va_runV (Ts := lw_all) (own := own) (C := "java/lang/String") (b := ad (1000000 + j)) (As := As.map (zt ad)) ⟨hX.1, hX.2.1, hX.2.2.1, hX.2.2.2.1, hX.2.2.2.2.1⟩ hmet (cwV n hX.2.2.2.2.1 (lw_V w1 w2 w3 w4 w5) rfl rfl rfl hpd ⟨by show d2 + 1 ≤ R.frames; omega, by show 8 + (mL + 11) + 64 * d2 ≤ R.locals; omega⟩) ⟨zblind, hrecv, fun U hU hW => ⟨rfl, zstart hX.2.2.2.2.2.1 hX.2.2.2.2.2.2.2.1 hX.2.2.2.2.2.2.2.2.1 hX.2.2.2.2.2.2.2.2.2.1 hr hU hW⟩⟩ rfl ?_ hlv.1 ?_ (lv_room (by rw [zwt_t]; exact hwt)) hd ⟨by omega, by omega⟩) kk
  · rw [List.length_map]
    have : (Value.ref (1000000 + j) :: As).length = n + 1 := hn
    rw [List.length_cons] at this
    omega
  · show (List.map (zt ad) (Value.ref (1000000 + j) :: As)).reverse ++ List.map (zt ad) st = _
    rw [List.map_cons, List.reverse_cons, List.append_assoc]
    rfl
theorem zinvT {ix n rk dF : Nat} {F : Mth} (hl : zlkT own ix n rk dF F) (hrk : rk = 0 ∨ rk = 1 ∨ rk = 2) (hd2 : dF + 1 ≤ d) (hd : decode cc pc = .ok (.invokevirtual ix, 3)) : zinv own cc nL d ini pc (n + 1) rk F := by
  obtain ⟨y, co, mL, ret, hM, hrc, hmL, w1, w2, w3, w4, w5, hpd⟩ := hl
  exact ⟨hM.1, fun Z hX L ts st h h2 as v hF hn hcap hwt kk => zw_callT hX hM hrk hrc hd2 hmL w1 w2 w3 w4 w5 hpd hd hF hn hcap hwt kk⟩
end ZTX
