/-! NODE'S CONSTRUCTOR, run on an object of a subclass; and a constructor's call of it. -/
set_option maxRecDepth 100000
theorem flN_3 : zfldP RX4 1 3 3 0 := ⟨RX5, TX5, zcls3, Nat.le_of_ble_eq_true rfl, rfl, q498, by decide +kernel, by decide +kernel⟩
theorem flN_4 : zfldP RX4 1 4 3 0 := ⟨RX6, TX6, zcls4, Nat.le_of_ble_eq_true rfl, rfl, q498, by decide +kernel, by decide +kernel⟩
theorem flN_5 : zfldP RX4 1 5 3 0 := ⟨RX7, TX7, zcls5, Nat.le_of_ble_eq_true rfl, rfl, q498, by decide +kernel, by decide +kernel⟩
theorem flN_6 : zfldP RX4 1 6 5 0 := ⟨RX8, TX8, zcls6, Nat.le_of_ble_eq_true rfl, rfl, q498, by decide +kernel, by decide +kernel⟩
def B_X4_init (c N : Nat) : ZS := zs_seq (zs_pr c N 0 (zr_l 0) (zr_l 1)) (zs_nn 0)
def F_X4_init (c N : Nat) : Mth := zm_v [true, true] (B_X4_init c N)
theorem W_X4_init {c N : Nat} (hF : zfldP RX4 1 c N 0) (hz : zfr c 0 = true) : zj_S RX4 cX4_init 2 1 true 2 [true, true] [] [true, true] 0 9 0 0 (B_X4_init c N) := zj_seq (b := 5) (ts1 := [true, true]) (zj_ppr (b := 1) (c := 2) (zj_aload_n rfl rfl dX4_init_0) (zj_aload_n rfl rfl dX4_init_1) hF hz dX4_init_2) (zj_obj dX4_init_5 q495 rfl (Nat.le_of_ble_eq_true rfl) dX4_init_6)
theorem M_X4_init {c N : Nat} (hF : zfldP RX4 1 c N 0) (hz : zfr c 0 = true) : zMet yX4_init cX4_init 2 none 2 1 (F_X4_init c N) := zMet_v (by decide +kernel) (fun _ => rfl) (Nat.le_of_ble_eq_true rfl) (W_X4_init hF hz) dX4_init_9
theorem lk_X5_7 : zlkI RX5 7 1 1 (F_X4_init 3 3) := ⟨yX4_init, cX4_init, 2, M_X4_init flN_3 rfl, Nat.le_of_ble_eq_true rfl, rfl, Or.inr (List.mem_of_getElem? (i := 7) rfl), q493, q99, q494, by decide, by decide, rfl⟩
theorem lk_X6_7 : zlkI RX6 7 1 1 (F_X4_init 4 3) := ⟨yX4_init, cX4_init, 2, M_X4_init flN_4 rfl, Nat.le_of_ble_eq_true rfl, rfl, Or.inr (List.mem_of_getElem? (i := 8) rfl), q493, q99, q494, by decide, by decide, rfl⟩
theorem lk_X7_7 : zlkI RX7 7 1 1 (F_X4_init 5 3) := ⟨yX4_init, cX4_init, 2, M_X4_init flN_5 rfl, Nat.le_of_ble_eq_true rfl, rfl, Or.inr (List.mem_of_getElem? (i := 9) rfl), q493, q99, q494, by decide, by decide, rfl⟩
theorem lk_X8_7 : zlkI RX8 7 1 1 (F_X4_init 6 5) := ⟨yX4_init, cX4_init, 2, M_X4_init flN_6 rfl, Nat.le_of_ble_eq_true rfl, rfl, Or.inr (List.mem_of_getElem? (i := 10) rfl), q493, q99, q494, by decide, by decide, rfl⟩
section ZSUP
variable {own : String} {cc : ByteArray} {nL d pc : Nat} {ini : Bool} {rk : Nat} {ts tb : List Bool} {a b pb pk iy n dF : Nat} {F : Mth} {as : ZA}
/-- super(args): the receiver is the first of them -/
theorem zj_sup (hA : zj_A own cc nL d ini ts 0 (n + 1) a b as) (hl : zlkI own iy n dF F) (hd2 : dF + 1 ≤ d) (hd : decode cc b = .ok (.invokespecial iy, 3)) (hnn : ∀ vs h r, F vs h = some r → ∃ o rest, vs = .ref o :: rest) : zj_S own cc nL d ini rk ts tb ts a (b + 3) pb pk (zs_call F as) := by
  obtain ⟨y, co, mL, hM, hmL, hnm, w1, w2, w4, w5, hpd⟩ := hl
  refine ⟨fun L h r ee => ?_, fun Z hX L h r ee hc k0 _ _ _ _ => ?_⟩
  · obtain ⟨vs, h1, v, h2, q1, q2, rfl⟩ := zs_call_key ee
    exact zle_trans (hA.1 L h _ _ q1).1 (hM.1 _ _ _ _ q2)
  · obtain ⟨vs, h1, v, h2, q1, q2, rfl⟩ := zs_call_key ee
    refine hA.2 Z hX L [] h _ h1 q1 (zcap_le (hM.1 _ _ _ _ q2) hc) (Nat.le_refl 0) ?_
    obtain ⟨o, As, rfl⟩ := hnn _ _ _ q2
    have hlen := (hA.1 L h _ _ q1).2.1
    rw [List.reverse_cons, List.append_assoc]
    exact zw_callI hX hM hd2 hmL hnm w1 w2 w4 w5 hpd hd q2 (by rw [List.length_cons] at hlen; omega) hc (Nat.zero_le _) (k0 rfl)
end ZSUP
theorem zsup_nn {c N : Nat} : ∀ vs h r, F_X4_init c N vs h = some r → ∃ o rest, vs = .ref o :: rest := by
  intro vs h r e
  unfold F_X4_init zm_v at e
  by_cases ht : zty [true, true] vs = true
  · rw [if_pos ht] at e
    obtain ⟨w, q1, q2⟩ := Option.bind_eq_some_iff.mp e
    obtain ⟨z, q3, q4⟩ := Option.bind_eq_some_iff.mp q1
    obtain ⟨⟨o, h2⟩, q5, q6⟩ := Option.bind_eq_some_iff.mp q3
    obtain ⟨⟨o2, h3⟩, q7, q8⟩ := Option.bind_eq_some_iff.mp q6
    cases vs with
    | nil => cases ht
    | cons v rest =>
      cases v with
      | ref o => exact ⟨o, rest, rfl⟩
      | null => cases q5; cases q8
      | _ => cases ht
  · rw [if_neg ht] at e
    cases e
