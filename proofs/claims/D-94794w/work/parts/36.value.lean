/-! NODE.value(): by the object's class. -/
set_option maxRecDepth 100000
section ZVAL
variable {own : String} {cc : ByteArray} {nL d pc : Nat} {ini : Bool} {L : Fr} {ts : List Bool} {st : List Value} {h h2 : Hp}
theorem zw_callA {Z : ZK} {ix c N n mL rk d2 : Nat} {C owner : String} {T : u_T} {x y : MethodName} {co : ByteArray} {ret : Option FieldType} {F : Mth} {as : List Value} {v : Value} (hX : zx own cc nL d ini Z) (hM : zMet y co mL ret rk d2 F) (hrk : rk = 0 ∨ rk = 1 ∨ rk = 2) (hrc : zrcv c N F) (hc : zcls c C T N) (hd2 : d2 + 1 ≤ d) (hmL : mL ≤ 45)
    (w1 : Cond.methodLink own ix x ∈ lw_all) (w0 : Cond.sameMethod x.cls owner x.name x.desc ∈ lw_all) (w2 : Cond.instanceMethod y ∈ lw_all) (w3 : Cond.selects C x y ∈ lw_all) (w4 : Cond.initialized y.cls ∈ lw_all) (w5 : Cond.code y co mL ret ∈ lw_all) (w6 : Cond.declares ⟨owner, x.name, x.desc⟩ ∈ znw) (hpd : owner ≠ "java/lang/invoke/MethodHandle" ∧ owner ≠ "java/lang/invoke/VarHandle" ∧ (parseMethodDescriptor x.desc).map (fun d => d.parameters.length) = some n) (hd : decode cc pc = .ok (.invokevirtual ix, 3))
    (hF : F as h = some (v, h2)) (hn : as.length = n + 1) (hcap : zcap Z h2) (hwt : zwt st ≤ 8) (kk : zw Z nL (pc + 3) L ts (zpush rk v st) h2) : zw Z nL pc L ts (as.reverse ++ st) h := by
  obtain ⟨o, As, rfl, ho⟩ := hrc as h _ hF
  obtain ⟨p, l, e, R, s, m, args, below, meth, cd, Q, A, G, cC, cS⟩ := Z
  intro ad H locs ls cells slots hr hlv hok
  have hle := hM.1 _ _ _ _ hF
  have l1 := zle_len hle
  have l2 := zle_sum hle
  have hcap1 : h2.2.2.length ≤ cC := hcap.1
  have hcap2 : zsum h2.2.2 ≤ cS := hcap.2
  have hcC : cC ≤ 1000000 := hX.2.2.2.2.2.2.2.2.2.2.2.2.1
  have r1 : d ≤ R.frames := hX.2.2.2.2.2.2.2.2.2.2.1
  have r2 : 64 * d ≤ R.locals := hX.2.2.2.2.2.2.2.2.2.2.2.1
  have r3 := hr.2.2.2.2.2.1
  have r4 := hr.2.2.2.2.2.2.1
  have he : (zws G ad h)[o]? = some (ad o, .inr (c, zfs ad h o c N)) := by rw [zws_at ho, zce_obj hc.2.1]
  have hmet := hM.2 l G ad h _ v h2 H.size hF hr.2.2.2.1 (zargs_id hok) (by omega) hr.2.2.2.2.1
  have hG : GoodIn lw_all (va_wsU own ix C owner x y (ws_ y co mL ret)) := lw_app (fun w hw => by
    simp only [List.mem_cons, List.not_mem_nil, or_false] at hw
    rcases hw with rfl | rfl | rfl | rfl | rfl
    · exact w1
    · exact w0
    · exact w3
    · exact w2
    · exact w4) (lw_meth w5)
  rw [zrev]
  refine zw_back (G2 := G) ⟨rfl, rfl⟩ hrk hX.2.2.2.2.2.2.2.2.2.1 hr hlv (zrest_ok hok) hle ⟨hcap1, hcap2⟩ (va_runU (Ts := lw_all) (own := own) (C := C) (owner := owner) (x := x) (b := ad o) (As := As.map (zt ad)) ⟨hX.1, hX.2.1, hX.2.2.1, hX.2.2.2.1, hX.2.2.2.2.1⟩ hmet (va_cwA n hX.2.2.2.2.1 hG rfl rfl rfl (hX.2.2.2.2.2.2.1 _ w6) hpd ⟨by show d2 + 1 ≤ R.frames; omega, by show 8 + (mL + 11) + 64 * d2 ≤ R.locals; omega⟩) ⟨zblind, va_recv hX.2.2.2.2.2.1 hr.1 hc.1 he, fun U hU hW => ⟨rfl, zstart hX.2.2.2.2.2.1 hX.2.2.2.2.2.2.2.1 hX.2.2.2.2.2.2.2.2.1 hX.2.2.2.2.2.2.2.2.2.1 hr hU hW⟩⟩ rfl ?_ hlv.1 ?_ (lv_room (by rw [zwt_t]; exact hwt)) hd ⟨by omega, by omega⟩) kk
  · rw [List.length_map]
    have : (Value.ref o :: As).length = n + 1 := hn
    rw [List.length_cons] at this
    omega
  · show (List.map (zt ad) (Value.ref o :: As)).reverse ++ List.map (zt ad) st = _
    rw [List.map_cons, List.reverse_cons, List.append_assoc]
    rfl
end ZVAL
def F_value : Nat → Mth
  | 0 => fun _ _ => none
  | n + 1 => fun as h => match as with
    | [.ref o] => if h.2.2[o]? = some (3, 3) then zvt 3 3 (zm_i [true] zfit (B_X5_value (F_value n))) as h
      else if h.2.2[o]? = some (4, 3) then zvt 4 3 (zm_i [true] zfit B_X6_value) as h
      else if h.2.2[o]? = some (5, 3) then zvt 5 3 (zm_i [true] zfit B_X7_value) as h
      else zvt 6 5 (zm_i [true] zfit (B_X8_value (F_value n))) as h
    | _ => none
theorem zvalue_key {n : Nat} {as : List Value} {h : Hp} {r : Value × Hp} (e : F_value (n + 1) as h = some r) : zvt 3 3 (zm_i [true] zfit (B_X5_value (F_value n))) as h = some r ∨ zvt 4 3 (zm_i [true] zfit B_X6_value) as h = some r ∨ zvt 5 3 (zm_i [true] zfit B_X7_value) as h = some r ∨ zvt 6 5 (zm_i [true] zfit (B_X8_value (F_value n))) as h = some r := by
  unfold F_value at e
  split at e
  · split at e
    · exact Or.inl e
    · split at e
      · exact Or.inr (Or.inl e)
      · split at e
        · exact Or.inr (Or.inr (Or.inl e))
        · exact Or.inr (Or.inr (Or.inr e))
  · cases e
theorem zvl_value : ∀ (n : Nat) (own : String) (ix : Nat), Cond.methodLink own ix ⟨"SnowForSummer$Node", "value", "()I"⟩ ∈ lw_all → zvl own ix (20 + n) (F_value n) := by
  intro n
  induction n with
  | zero => exact fun own ix _ cc nL d ini pc _ _ => ⟨fun _ _ _ _ e => (by cases e), fun Z _ L ts st h h2 as v e => (by cases e)⟩
  | succ n ih =>
    intro own ix w1 cc nL d ini pc hd2 hd
    have m5 : zMet yX5_value cX5_value 1 (some .int) 0 (20 + (n + 1)) (zvt 3 3 (zm_i [true] zfit (B_X5_value (F_value n)))) := zMet_vt (zMet_i (by decide +kernel) (Nat.le_of_ble_eq_true rfl) znr_I (W_X5_value (Nat.le_add_right _ _) (ih RX5 17 q645)))
    have m6 : zMet yX6_value cX6_value 1 (some .int) 0 (20 + (n + 1)) (zvt 4 3 (zm_i [true] zfit B_X6_value)) := zMet_vt (zMet_i (by decide +kernel) (Nat.le_of_ble_eq_true rfl) znr_I (W_X6_value (dd := 20 + n) (Nat.le_add_right _ _)))
    have m7 : zMet yX7_value cX7_value 1 (some .int) 0 (20 + (n + 1)) (zvt 5 3 (zm_i [true] zfit B_X7_value)) := zMet_vt (zMet_i (by decide +kernel) (Nat.le_of_ble_eq_true rfl) znr_I (W_X7_value (dd := 20 + n) (Nat.le_add_right _ _)))
    have m8 : zMet yX8_value cX8_value 3 (some .int) 0 (20 + (n + 1)) (zvt 6 5 (zm_i [true] zfit (B_X8_value (F_value n)))) := zMet_vt (zMet_i (by decide +kernel) (Nat.le_of_ble_eq_true rfl) znr_I (W_X8_value (Nat.le_add_right _ _) (ih RX8 24 q642)))
    have w6 : Cond.declares ⟨"SnowForSummer$Node", "value", "()I"⟩ ∈ znw := List.mem_of_getElem? (i := 19) rfl
    refine ⟨fun as h v h2 e => ?_, fun Z hX L ts st h h2 as v e hn hcap hwt kk => ?_⟩
    · rcases zvalue_key e with e | e | e | e
      · exact m5.1 _ _ _ _ e
      · exact m6.1 _ _ _ _ e
      · exact m7.1 _ _ _ _ e
      · exact m8.1 _ _ _ _ e
    · rcases zvalue_key e with e | e | e | e
      · exact zw_callA (x := ⟨"SnowForSummer$Node", "value", "()I"⟩) (owner := "SnowForSummer$Node") (n := 0) hX m5 (Or.inl rfl) zrcv_vt zcls3 hd2 (Nat.le_of_ble_eq_true rfl) w1 q638 q643 q650 q100 q644 w6 (by decide +kernel) hd e hn hcap hwt kk
      · exact zw_callA (x := ⟨"SnowForSummer$Node", "value", "()I"⟩) (owner := "SnowForSummer$Node") (n := 0) hX m6 (Or.inl rfl) zrcv_vt zcls4 hd2 (Nat.le_of_ble_eq_true rfl) w1 q638 q646 q651 q101 q647 w6 (by decide +kernel) hd e hn hcap hwt kk
      · exact zw_callA (x := ⟨"SnowForSummer$Node", "value", "()I"⟩) (owner := "SnowForSummer$Node") (n := 0) hX m7 (Or.inl rfl) zrcv_vt zcls5 hd2 (Nat.le_of_ble_eq_true rfl) w1 q638 q648 q652 q102 q649 w6 (by decide +kernel) hd e hn hcap hwt kk
      · exact zw_callA (x := ⟨"SnowForSummer$Node", "value", "()I"⟩) (owner := "SnowForSummer$Node") (n := 0) hX m8 (Or.inl rfl) zrcv_vt zcls6 hd2 (Nat.le_of_ble_eq_true rfl) w1 q638 q640 q639 q103 q641 w6 (by decide +kernel) hd e hn hcap hwt kk
theorem lk_X1_318 : zvl RX1 318 120 (F_value 100) := zvl_value 100 RX1 318 q636
