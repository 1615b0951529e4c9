/-! CALL SITES: what a program needs to say of an entry of its pool, once; and the judgements of calls, new, copies. -/
set_option maxRecDepth 100000
/-- entry ix of class own is a method with n arguments of an object; its meaning F needs dF frames -/
def zlkV (own : String) (ix n rk dF : Nat) (F : Mth) : Prop := ∃ (y : MethodName) (co : ByteArray) (mL : Nat) (ret : Option FieldType) (c : Nat) (C : String) (T : u_T) (N : Nat), zMet y co mL ret rk dF F ∧ zrcv c N F ∧ zcls c C T N ∧ mL ≤ 45 ∧ Cond.methodLink own ix y ∈ lw_all ∧ Cond.instanceMethod y ∈ lw_all ∧ Cond.selects C y y ∈ lw_all ∧ Cond.initialized C ∈ lw_all ∧ Cond.code y co mL ret ∈ lw_all ∧ y.cls = C ∧ y.cls ≠ "java/lang/invoke/MethodHandle" ∧ y.cls ≠ "java/lang/invoke/VarHandle" ∧ (parseMethodDescriptor y.desc).map (fun d => d.parameters.length) = some n
def zlkS (own : String) (ix n rk dF : Nat) (F : Mth) : Prop := ∃ (y : MethodName) (co : ByteArray) (mL : Nat) (ret : Option FieldType), zMet y co mL ret rk dF F ∧ mL ≤ 45 ∧ Cond.methodLink own ix y ∈ lw_all ∧ Cond.static y ∈ lw_all ∧ Cond.initialized y.cls ∈ lw_all ∧ Cond.code y co mL ret ∈ lw_all ∧ y.cls ≠ "java/lang/invoke/MethodHandle" ∧ y.cls ≠ "java/lang/invoke/VarHandle" ∧ (parseMethodDescriptor y.desc).map (fun d => d.parameters.length) = some n
def zlkI (own : String) (ix n dF : Nat) (F : Mth) : Prop := ∃ (y : MethodName) (co : ByteArray) (mL : Nat), zMet y co mL none 2 dF F ∧ mL ≤ 45 ∧ y.name = "<init>" ∧ (Cond.methodLink own ix y ∈ lw_all ∨ Cond.methodLinkNest own ix y "SnowForSummer" ∈ znw) ∧ Cond.instanceMethod y ∈ lw_all ∧ Cond.initialized y.cls ∈ lw_all ∧ Cond.code y co mL none ∈ lw_all ∧ y.cls ≠ "java/lang/invoke/MethodHandle" ∧ y.cls ≠ "java/lang/invoke/VarHandle" ∧ (parseMethodDescriptor y.desc).map (fun d => d.parameters.length) = some n
/-- entry ix of class own is class c, which can be made -/
def zlkN (own : String) (ix c N : Nat) : Prop := ∃ (C : String) (T : u_T), zcls c C T N ∧ (∀ k, k < N → zsm (ztyOf c k) = true) ∧ Cond.classLink own ix C ∈ lw_all ∧ Cond.instantiable C N ∈ lw_all ∧ Cond.initialized C ∈ lw_all
section ZSITE
variable {own : String} {cc : ByteArray} {nL d pc : Nat} {ini : Bool} {rk : Nat} {ts tb ts2 : List Bool} {a b c x pb pk k ix n dF : Nat} {F : Mth} {as : ZA}
/-- the two kinds of calls, as one -/
def zinv (own : String) (cc : ByteArray) (nL d : Nat) (ini : Bool) (pc n rk : Nat) (F : Mth) : Prop := (∀ as h v h2, F as h = some (v, h2) → zle h h2) ∧ ∀ Z, zx own cc nL d ini Z → ∀ L ts st h h2 as v, F as h = some (v, h2) → as.length = n → zcap Z h2 → zwt st ≤ 8 → zw Z nL (pc + 3) L ts (zpush rk v st) h2 → zw Z nL pc L ts (as.reverse ++ st) h
theorem zinvV (hl : zlkV own ix n rk dF F) (hrk : rk = 0 ∨ rk = 1 ∨ rk = 2) (hd2 : dF + 1 ≤ d) (hd : decode cc pc = .ok (.invokevirtual ix, 3)) : zinv own cc nL d ini pc (n + 1) rk F := by
  obtain ⟨y, co, mL, ret, q, C, T, N, hM, hrc, hc, hmL, w1, w2, w3, w4, w5, hpd⟩ := hl
  exact ⟨hM.1, fun Z hX L ts st h h2 as v hF hn hcap hwt kk => zw_callV hX hM hrk hrc hc hd2 hmL w1 w2 w3 w4 w5 hpd hd hF hn hcap hwt kk⟩
theorem zinvS (hl : zlkS own ix n rk dF F) (hrk : rk = 0 ∨ rk = 1 ∨ rk = 2) (hd2 : dF + 1 ≤ d) (hd : decode cc pc = .ok (.invokestatic ix, 3)) : zinv own cc nL d ini pc n rk F := by
  obtain ⟨y, co, mL, ret, hM, hmL, w1, w2, w4, w5, hpd⟩ := hl
  exact ⟨hM.1, fun Z hX L ts st h h2 as v hF hn hcap hwt kk => zw_callS hX hM hrk hd2 hmL w1 w2 w4 w5 hpd hd hF hn hcap hwt kk⟩
theorem zj_calli (hA : zj_A own cc nL d ini ts k n a b as) (hi : zinv own cc nL d ini b n 0 F) (hk8 : k ≤ 8) : zj_I own cc nL d ini ts k a (b + 3) (ze_call F as) := by
  have key : ∀ L h v h', ze_call F as L h = some (v, h') → ∃ vs h1, as L h = some (vs, h1) ∧ F vs h1 = some (.int v, h') := by
    intro L h v h' ee
    obtain ⟨⟨vs, h1⟩, q1, q2⟩ := Option.bind_eq_some_iff.mp ee
    obtain ⟨⟨w, h3⟩, q3, q4⟩ := Option.bind_eq_some_iff.mp q2
    cases w with
    | int w => cases q4; exact ⟨vs, h1, q1, q3⟩
    | _ => cases q4
  refine ⟨fun L h v h' ee => ?_, fun Z hX L st h v h' ee hc hk kk => ?_⟩
  · obtain ⟨vs, h1, q1, q2⟩ := key L h v h' ee
    exact zle_trans (hA.1 L h _ _ q1).1 (hi.1 _ _ _ _ q2)
  · obtain ⟨vs, h1, q1, q2⟩ := key L h v h' ee
    refine hA.2 Z hX L st h _ h1 q1 (zcap_le (hi.1 _ _ _ _ q2) hc) hk ?_
    exact hi.2 Z hX L ts st h1 h' vs _ q2 (hA.1 L h _ _ q1).2.1 hc (by omega) kk
theorem zj_callr (hA : zj_A own cc nL d ini ts k n a b as) (hi : zinv own cc nL d ini b n 1 F) (hk8 : k ≤ 8) : zj_R own cc nL d ini ts k a (b + 3) (zr_call F as) := by
  have key : ∀ L h v h', zr_call F as L h = some (v, h') → ∃ vs h1, as L h = some (vs, h1) ∧ F vs h1 = some (va_rf v, h') := by
    intro L h v h' ee
    obtain ⟨⟨vs, h1⟩, q1, q2⟩ := Option.bind_eq_some_iff.mp ee
    obtain ⟨⟨w, h3⟩, q3, q4⟩ := Option.bind_eq_some_iff.mp q2
    cases w with
    | null => cases q4; exact ⟨vs, h1, q1, q3⟩
    | ref w => cases q4; exact ⟨vs, h1, q1, q3⟩
    | _ => cases q4
  refine ⟨fun L h v h' ee => ?_, fun Z hX L st h v h' ee hc hk kk => ?_⟩
  · obtain ⟨vs, h1, q1, q2⟩ := key L h v h' ee
    exact zle_trans (hA.1 L h _ _ q1).1 (hi.1 _ _ _ _ q2)
  · obtain ⟨vs, h1, q1, q2⟩ := key L h v h' ee
    refine hA.2 Z hX L st h _ h1 q1 (zcap_le (hi.1 _ _ _ _ q2) hc) hk ?_
    exact hi.2 Z hX L ts st h1 h' vs _ q2 (hA.1 L h _ _ q1).2.1 hc (by omega) kk
theorem zs_call_key {L : Fr} {h : Hp} {r : Nat × Fr × Hp} (ee : zs_call F as L h = some r) : ∃ vs h1 v h2, as L h = some (vs, h1) ∧ F vs h1 = some (v, h2) ∧ r = (0, L, h2) := by
  obtain ⟨⟨vs, h1⟩, q1, q2⟩ := Option.bind_eq_some_iff.mp ee
  obtain ⟨⟨w, h3⟩, q3, q4⟩ := Option.bind_eq_some_iff.mp q2
  cases q4
  exact ⟨vs, h1, w, h3, q1, q3, rfl⟩
/-- f(args); a method that answers nothing -/
theorem zj_callv (hA : zj_A own cc nL d ini ts 0 n a b as) (hi : zinv own cc nL d ini b n 2 F) : zj_S own cc nL d ini rk ts tb ts a (b + 3) pb pk (zs_call F as) := by
  refine ⟨fun L h r ee => ?_, fun Z hX L h r ee hc k0 _ _ _ _ => ?_⟩
  · obtain ⟨vs, h1, v, h2, q1, q2, rfl⟩ := zs_call_key ee
    exact zle_trans (hA.1 L h _ _ q1).1 (hi.1 _ _ _ _ q2)
  · obtain ⟨vs, h1, v, h2, q1, q2, rfl⟩ := zs_call_key ee
    refine hA.2 Z hX L [] h _ h1 q1 (zcap_le (hi.1 _ _ _ _ q2) hc) (Nat.le_refl 0) ?_
    exact hi.2 Z hX L ts [] h1 h2 vs v q2 (hA.1 L h _ _ q1).2.1 hc (Nat.zero_le _) (k0 rfl)
/-- f(args); an int's answer let go -/
theorem zj_callp (hA : zj_A own cc nL d ini ts 0 n a b as) (hi : zinv own cc nL d ini b n 0 F) (hF : ∀ vs h v h2, F vs h = some (v, h2) → v.category = 1) (hd : decode cc (b + 3) = .ok (.pop, 1)) : zj_S own cc nL d ini rk ts tb ts a (b + 4) pb pk (zs_call F as) := by
  refine ⟨fun L h r ee => ?_, fun Z hX L h r ee hc k0 _ _ _ _ => ?_⟩
  · obtain ⟨vs, h1, v, h2, q1, q2, rfl⟩ := zs_call_key ee
    exact zle_trans (hA.1 L h _ _ q1).1 (hi.1 _ _ _ _ q2)
  · obtain ⟨vs, h1, v, h2, q1, q2, rfl⟩ := zs_call_key ee
    refine hA.2 Z hX L [] h _ h1 q1 (zcap_le (hi.1 _ _ _ _ q2) hc) (Nat.le_refl 0) ?_
    refine hi.2 Z hX L ts [] h1 h2 vs v q2 (hA.1 L h _ _ q1).2.1 hc (Nat.zero_le _) ?_
    exact zw_pop hX (hF _ _ _ _ q2) hd (k0 rfl)
theorem zm_i_cat {t : List Bool} {fit : Int32 → Bool} {s : ZS} : ∀ vs h v h2, zm_i t fit s vs h = some (v, h2) → v.category = 1 := by
  intro as h v h2 e
  unfold zm_i at e
  by_cases ht : zty t as = true
  · rw [if_pos ht] at e
    obtain ⟨r, q1, q2⟩ := Option.bind_eq_some_iff.mp e
    by_cases hh : r.1 = 3 ∧ fit (r.2.1.1 999) = true
    · rw [if_pos hh] at q2
      cases q2
      rfl
    · rw [if_neg hh] at q2
      cases q2
  · rw [if_neg ht] at e
    cases e
theorem zvt_cat {q N : Nat} (hF : ∀ vs h v h2, F vs h = some (v, h2) → v.category = 1) : ∀ vs h v h2, zvt q N F vs h = some (v, h2) → v.category = 1 := fun vs h v h2 e => hF vs h v h2 (zvt_key e).1
/-- new C(args) -/
theorem zj_new {q N iy : Nat} (hn : zlkN own ix q N) (hd0 : decode cc a = .ok (.new ix, 3)) (hd1 : decode cc (a + 3) = .ok (.dup, 1)) (hA : zj_A own cc nL d ini ts (k + 2) n (a + 4) b as) (hl : zlkI own iy n dF F) (hd2 : dF + 1 ≤ d) (hk8 : k + 2 ≤ 8) (hd : decode cc b = .ok (.invokespecial iy, 3)) : zj_R own cc nL d ini ts k a (b + 3) (zr_new q N F as) := by
  obtain ⟨C, T, hc, hsm, m1, m2, m3⟩ := hn
  obtain ⟨y, co, mL, hM, hmL, hnm, w1, w2, w4, w5, hpd⟩ := hl
  have key : ∀ L h v h', zr_new q N F as L h = some (v, h') → ∃ vs h1 w, as L (zh_new q N h) = some (vs, h1) ∧ F (.ref h.2.2.length :: vs) h1 = some (w, h') ∧ v = some h.2.2.length := by
    intro L h v h' ee
    obtain ⟨⟨vs, h1⟩, q1, q2⟩ := Option.bind_eq_some_iff.mp ee
    obtain ⟨⟨w, h3⟩, q3, q4⟩ := Option.bind_eq_some_iff.mp q2
    cases q4
    exact ⟨vs, h1, w, q1, q3, rfl⟩
  refine ⟨fun L h v h' ee => ?_, fun Z hX L st h v h' ee hc2 hk kk => ?_⟩
  · obtain ⟨vs, h1, w, q1, q2, rfl⟩ := key L h v h' ee
    exact zle_trans ⟨[(q, N)], rfl⟩ (zle_trans (hA.1 L _ _ _ q1).1 (hM.1 _ _ _ _ q2))
  · obtain ⟨vs, h1, w, q1, q2, rfl⟩ := key L h v h' ee
    have hc1 : zcap Z h1 := zcap_le (hM.1 _ _ _ _ q2) hc2
    refine zw_new hX hc hsm m1 m2 m3 hd0 (zcap_le (hA.1 L _ _ _ q1).1 hc1) ?_
    refine zw_dup hX rfl hd1 ?_
    refine hA.2 Z hX L _ _ _ h1 q1 hc1 (by rw [zwt_c, zwt_c]; show 1 + (1 + zwt st) ≤ k + 2; omega) ?_
    exact zw_callI hX hM hd2 hmL hnm w1 w2 w4 w5 hpd hd q2 (hA.1 L _ _ _ q1).2.1 hc2 (by rw [zwt_c]; show 1 + zwt st ≤ 8; omega) kk
/-- new int[n] -/
theorem zj_newI {N : Nat} {v : Int32} (h1 : zj_I own cc nL d ini ts k a b (ze_c v)) (hn : ¬ v < 0) (hN : v.toNatClampNeg = N) (hb : N ≤ 100000) (hd : decode cc b = .ok (.newarray .int, 2)) : zj_R own cc nL d ini ts k a (b + 2) (zr_newa 100 N) :=
  ⟨fun L h w h' ee => by cases ee; exact ⟨[(100, N)], rfl⟩, fun Z hX L st h w h' ee hc hk kk => by
    cases ee
    exact h1.2 Z hX L st h _ h rfl (zcap_le ⟨[(100, N)], rfl⟩ hc) hk (zw_newI hX hn hN hb q148 hd hc kk)⟩
theorem zj_newB {N : Nat} {v : Int32} (h1 : zj_I own cc nL d ini ts k a b (ze_c v)) (hn : ¬ v < 0) (hN : v.toNatClampNeg = N) (hb : N ≤ 100000) (hd : decode cc b = .ok (.newarray .byte, 2)) : zj_R own cc nL d ini ts k a (b + 2) (zr_newa 101 N) :=
  ⟨fun L h w h' ee => by cases ee; exact ⟨[(101, N)], rfl⟩, fun Z hX L st h w h' ee hc hk kk => by
    cases ee
    exact h1.2 Z hX L st h _ h rfl (zcap_le ⟨[(101, N)], rfl⟩ hc) hk (zw_newB hX hn hN hb q459 hd hc kk)⟩
theorem zj_newZ {N : Nat} {v : Int32} (h1 : zj_I own cc nL d ini ts k a b (ze_c v)) (hn : ¬ v < 0) (hN : v.toNatClampNeg = N) (hb : N ≤ 100000) (hd : decode cc b = .ok (.newarray .boolean, 2)) : zj_R own cc nL d ini ts k a (b + 2) (zr_newa 102 N) :=
  ⟨fun L h w h' ee => by cases ee; exact ⟨[(102, N)], rfl⟩, fun Z hX L st h w h' ee hc hk kk => by
    cases ee
    exact h1.2 Z hX L st h _ h rfl (zcap_le ⟨[(102, N)], rfl⟩ hc) hk (zw_newZ hX hn hN hb q1196 hd hc kk)⟩
theorem zj_newT {N : Nat} {v : Int32} (h1 : zj_I own cc nL d ini ts k a b (ze_c v)) (hn : ¬ v < 0) (hN : v.toNatClampNeg = N) (hb : N ≤ 100000) (hw : Cond.classLink own ix RX2 ∈ lw_all) (hd : decode cc b = .ok (.anewarray ix, 3)) : zj_R own cc nL d ini ts k a (b + 3) (zr_newa 103 N) :=
  ⟨fun L h w h' ee => by cases ee; exact ⟨[(103, N)], rfl⟩, fun Z hX L st h w h' ee hc hk kk => by
    cases ee
    exact h1.2 Z hX L st h _ h rfl (zcap_le ⟨[(103, N)], rfl⟩ hc) hk (zw_newT hX hn hN hb hw hd hc kk)⟩
end ZSITE
