/-! PHASE B: a town of S. -/
set_option maxRecDepth 100000
/-- town t: its object and its four arrays -/
def KT (g : Rg) (t : Nat) : Prop := g.1 t 0 = some (t + 1) ∧ g.1 t 1 = some (t + 2) ∧ g.1 t 2 = some (t + 3) ∧ g.1 t 3 = some (t + 4) ∧ g.2[t]? = some (1, 6) ∧ g.2[t + 1]? = some (100, 14) ∧ g.2[t + 2]? = some (100, 7) ∧ g.2[t + 3]? = some (100, 49) ∧ g.2[t + 4]? = some (100, 7)
/-- it holds the row r (snow 0.., paths 14.., debts 21.., day 70) and counts c (newly 0.., slid 7) -/
def TS (f : Nat → Nat → Int32) (t : Nat) (r c : Nat → Int32) : Prop := (∀ k, k < 14 → f (t + 1) k = r k) ∧ (∀ k, k < 7 → f (t + 2) k = r (14 + k)) ∧ (∀ k, k < 49 → f (t + 3) k = r (21 + k)) ∧ f t 4 = r 70 ∧ (∀ k, k < 7 → f (t + 4) k = c k) ∧ f t 5 = c 7
/-- nothing but town t has changed -/
def FT (t : Nat) (f f' : Nat → Nat → Int32) : Prop := ∀ i, ¬ (t ≤ i ∧ i ≤ t + 4) → f' i = f i
theorem FT_rfl {t : Nat} {f : Nat → Nat → Int32} : FT t f f := fun _ _ => rfl
theorem FT_trans {t : Nat} {f f' f'' : Nat → Nat → Int32} (h1 : FT t f f') (h2 : FT t f' f'') : FT t f f'' := fun i hi => (h2 i hi).trans (h1 i hi)
theorem TS_far {u : Nat} {f f' : Nat → Nat → Int32} {r c : Nat → Int32} (h : ∀ i, u ≤ i → i ≤ u + 4 → f' i = f i) (hT : TS f u r c) : TS f' u r c := by
  obtain ⟨a1, a2, a3, a4, a5, a6⟩ := hT
  refine ⟨fun k hk => ?_, fun k hk => ?_, fun k hk => ?_, ?_, fun k hk => ?_, ?_⟩
  · rw [h (u + 1) (by omega) (by omega)]; exact a1 k hk
  · rw [h (u + 2) (by omega) (by omega)]; exact a2 k hk
  · rw [h (u + 3) (by omega) (by omega)]; exact a3 k hk
  · rw [h u (by omega) (by omega)]; exact a4
  · rw [h (u + 4) (by omega) (by omega)]; exact a5 k hk
  · rw [h u (by omega) (by omega)]; exact a6
/-- counts(): what is counted is 0 again -/
theorem t_counts {f : Nat → Nat → Int32} {g : Rg} {t : Nat} (hK : KT g t) : ∃ f', F_X2_counts [.ref t] (f, g) = some (.int 0, (f', g)) ∧ (∀ i, i ≠ t → i ≠ t + 4 → f' i = f i) ∧ f' t = upd (f t) 5 0 ∧ ∀ k, k < 7 → f' (t + 4) k = 0 := by
  obtain ⟨k0, k1, k2, k3, k4, k5, k6, k7, k8⟩ := hK
  suffices H : wF F_X2_counts [.ref t] (f, g) (fun v h' => ∃ f', v = .int 0 ∧ h' = (f', g) ∧ (∀ i, i ≠ t → i ≠ t + 4 → f' i = f i) ∧ f' t = upd (f t) 5 0 ∧ ∀ k, k < 7 → f' (t + 4) k = 0) by
    obtain ⟨v, h', e, f', rfl, rfl, q⟩ := H
    exact ⟨f', e, q⟩
  simp only [F_X2_counts, B_X2_counts, wI_c, wI_l, wR_n, wR_l, wR_str, wI_g, wR_g, wI_a, wR_a, wI_len, wI_b, wI_d, wI_u, wI_t, wR_t, wI_in, wI_pp, wI_call, wR_call, wC_cmp, wC_null, wC_not, wC_and, wC_or, wA_0, wA_i, wA_r, wS_skip, wS_brk, wS_cnt, wS_ret, wS_thr, wS_inc, wS_seq, wS_if, wS_i, wS_r, wS_reti, wS_retr, wS_pi, wS_pr, wS_po, wS_ai, wS_ao, wS_call, wS_cs, wS_copy, wF_vt, wF_i, wF_r, wF_v, List.nil_append, List.cons_append, zty, zf, zfi_s, zfi_0, zfr_s, zfr_0, upd, va_up, zfit, zfitZ, Option.some.injEq, exists_eq_left', exists_eq_left, exists_and_left, true_and, and_true, ite_true, ite_false, if_true, if_false, va_rf, Value.int.injEq, Value.ref.injEq, Bool.false_eq_true, reduceIte, reduceCtorEq, Nat.reduceEqDiff, Nat.reduceAdd, Prod.mk.injEq, or_true, true_or, or_false, false_or, and_false, false_and, not_true_eq_false, not_false_eq_true, eq_self, and_self, or_self, zb_ne, zb_fit, zb_eq, znar_100, Bool.not_true, Bool.not_false, Bool.not_not, beq_self_eq_true, Bool.or_true, Bool.true_or, in_zb, zb_beq, zco, k4]
  refine w_for (fun a L h => ∃ f', h = (f', g) ∧ L.1 1 = Int32.ofNat a ∧ L.2 0 = some t ∧ (∀ i, i ≠ t + 4 → f' i = f i) ∧ ∀ k, k < a → f' (t + 4) k = 0) 7 (by omega) 0 (by omega) ⟨f, rfl, rfl, rfl, fun _ _ => rfl, fun k hk => by omega⟩ ?_ ?_ ?_
  · rintro a L h ha ⟨f', rfl, e1, e2, e3, e4⟩
    simp only [wI_c, wI_l, wR_n, wR_l, wR_str, wI_g, wR_g, wI_a, wR_a, wI_len, wI_b, wI_d, wI_u, wI_t, wR_t, wI_in, wI_pp, wI_call, wR_call, wC_cmp, wC_null, wC_not, wC_and, wC_or, wA_0, wA_i, wA_r, wS_skip, wS_brk, wS_cnt, wS_ret, wS_thr, wS_inc, wS_seq, wS_if, wS_i, wS_r, wS_reti, wS_retr, wS_pi, wS_pr, wS_po, wS_ai, wS_ao, wS_call, wS_cs, wS_copy, wF_vt, wF_i, wF_r, wF_v, e1, i32_7, and_self]
  · rintro a L h ha ⟨f', rfl, e1, e2, e3, e4⟩
    simp (disch := omega) only [wI_c, wI_l, wR_n, wR_l, wR_str, wI_g, wR_g, wI_a, wR_a, wI_len, wI_b, wI_d, wI_u, wI_t, wR_t, wI_in, wI_pp, wI_call, wR_call, wC_cmp, wC_null, wC_not, wC_and, wC_or, wA_0, wA_i, wA_r, wS_skip, wS_brk, wS_cnt, wS_ret, wS_thr, wS_inc, wS_seq, wS_if, wS_i, wS_r, wS_reti, wS_retr, wS_pi, wS_pr, wS_po, wS_ai, wS_ao, wS_call, wS_cs, wS_copy, wF_vt, wF_i, wF_r, wF_v, List.nil_append, List.cons_append, zty, zf, zfi_s, zfi_0, zfr_s, zfr_0, upd, va_up, zfit, zfitZ, Option.some.injEq, exists_eq_left', exists_eq_left, exists_and_left, true_and, and_true, ite_true, ite_false, if_true, if_false, va_rf, Value.int.injEq, Value.ref.injEq, Bool.false_eq_true, reduceIte, reduceCtorEq, Nat.reduceEqDiff, Nat.reduceAdd, Prod.mk.injEq, or_true, true_or, or_false, false_or, and_false, false_and, not_true_eq_false, not_false_eq_true, eq_self, and_self, or_self, zb_ne, zb_fit, zb_eq, znar_100, Bool.not_true, Bool.not_false, Bool.not_not, beq_self_eq_true, Bool.or_true, Bool.true_or, in_zb, zb_beq, zco, zu_off, zu_on, zrow_off, zrow_on, zo_add_i, zo_mul_i, zo_sub_i, zo_div_i, zo_rem_i, zi_add, zi_nat, zi_inb, zLT_i, zLE_i, zGT_i, zGE_i, zEQ_i, zNE_i, i32_inj, i32_0, i32_1, i32_2, i32_3, i32_4, i32_5, i32_6, i32_7, i32_8, i32_9, i32_10, i32_11, i32_12, i32_13, i32_14, i32_15, i32_16, i32_17, i32_18, i32_19, i32_20, i32_21, i32_24, i32_30, i32_31, i32_39, i32_40, i32_42, i32_49, i32_60, i32_70, i32_71, i32_76, i32_80, i32_99, i32_100, i32_255, i32_999, i32_1000, i32_9999, i32_1000000, i32_100000000, e1, e2, k3, k4, k8]
    refine ⟨fun i hi => ?_, fun k hk => ?_⟩
    · rw [zu_off hi, e3 i hi]
    · by_cases q : k = a
      · rw [if_pos q]
      · rw [if_neg q]
        exact e4 k (by omega)
  · rintro L h ⟨f', rfl, e1, e2, e3, e4⟩
    simp (disch := omega) only [wI_c, wI_l, wR_n, wR_l, wR_str, wI_g, wR_g, wI_a, wR_a, wI_len, wI_b, wI_d, wI_u, wI_t, wR_t, wI_in, wI_pp, wI_call, wR_call, wC_cmp, wC_null, wC_not, wC_and, wC_or, wA_0, wA_i, wA_r, wS_skip, wS_brk, wS_cnt, wS_ret, wS_thr, wS_inc, wS_seq, wS_if, wS_i, wS_r, wS_reti, wS_retr, wS_pi, wS_pr, wS_po, wS_ai, wS_ao, wS_call, wS_cs, wS_copy, wF_vt, wF_i, wF_r, wF_v, List.nil_append, List.cons_append, zty, zf, zfi_s, zfi_0, zfr_s, zfr_0, upd, va_up, zfit, zfitZ, Option.some.injEq, exists_eq_left', exists_eq_left, exists_and_left, true_and, and_true, ite_true, ite_false, if_true, if_false, va_rf, Value.int.injEq, Value.ref.injEq, Bool.false_eq_true, reduceIte, reduceCtorEq, Nat.reduceEqDiff, Nat.reduceAdd, Prod.mk.injEq, or_true, true_or, or_false, false_or, and_false, false_and, not_true_eq_false, not_false_eq_true, eq_self, and_self, or_self, zb_ne, zb_fit, zb_eq, znar_100, Bool.not_true, Bool.not_false, Bool.not_not, beq_self_eq_true, Bool.or_true, Bool.true_or, in_zb, zb_beq, zco, zu_off, zu_on, zrow_off, zrow_on, zo_add_i, zo_mul_i, zo_sub_i, zo_div_i, zo_rem_i, zi_add, zi_nat, zi_inb, zLT_i, zLE_i, zGT_i, zGE_i, zEQ_i, zNE_i, i32_inj, i32_0, i32_1, i32_2, i32_3, i32_4, i32_5, i32_6, i32_7, i32_8, i32_9, i32_10, i32_11, i32_12, i32_13, i32_14, i32_15, i32_16, i32_17, i32_18, i32_19, i32_20, i32_21, i32_24, i32_30, i32_31, i32_39, i32_40, i32_42, i32_49, i32_60, i32_70, i32_71, i32_76, i32_80, i32_99, i32_100, i32_255, i32_999, i32_1000, i32_9999, i32_1000000, i32_100000000, e2, k4]
    refine ⟨fun i h1 h2 => ?_, ?_, fun k hk => ?_⟩
    · rw [zu_off h1, e3 i h2]
    · rw [e3 t (by omega)]
    · exact e4 k hk
theorem cpy0 {s d : Nat → Int32} {n k : Nat} (h : k < n) : va_cpy s d 0 0 n k = s k := by
  rw [pk_cpy_in (Nat.zero_le k) (by omega)]
  congr 1
  omega
/-- counts at their start; hb: what has been hit -/
def c0 (hb : Int32) : Nat → Int32 := fun k => if k = 8 then hb else 0
/-- becomes(o) -/
theorem t_becomes {f : Nat → Nat → Int32} {g : Rg} {t o : Nat} {r c : Nat → Int32} {hb : Int32} (hK : KT g t) (hO : KT g o) (hd : o + 4 < t ∨ t + 4 < o) (hT : TS f o r c) : ∃ f', F_X2_becomes [.ref t, .ref o] (f, g) = some (.int 0, (f', g)) ∧ FT t f f' ∧ TS f' t r (c0 hb) := by
  have hK' := hK
  obtain ⟨k0, k1, k2, k3, k4, k5, k6, k7, k8⟩ := hK
  obtain ⟨o0, o1, o2, o3, o4, o5, o6, o7, o8⟩ := hO
  suffices H : wF F_X2_becomes [.ref t, .ref o] (f, g) (fun v h' => ∃ f', v = .int 0 ∧ h' = (f', g) ∧ FT t f f' ∧ TS f' t r (c0 hb)) by
    obtain ⟨v, h', e, f', rfl, rfl, q⟩ := H
    exact ⟨f', e, q⟩
  simp (disch := omega) only [F_X2_becomes, B_X2_becomes, wI_c, wI_l, wR_n, wR_l, wR_str, wI_g, wR_g, wI_a, wR_a, wI_len, wI_b, wI_d, wI_u, wI_t, wR_t, wI_in, wI_pp, wI_call, wR_call, wC_cmp, wC_null, wC_not, wC_and, wC_or, wA_0, wA_i, wA_r, wS_skip, wS_brk, wS_cnt, wS_ret, wS_thr, wS_inc, wS_seq, wS_if, wS_i, wS_r, wS_reti, wS_retr, wS_pi, wS_pr, wS_po, wS_ai, wS_ao, wS_call, wS_cs, wS_copy, wF_vt, wF_i, wF_r, wF_v, List.nil_append, List.cons_append, zty, zf, zfi_s, zfi_0, zfr_s, zfr_0, upd, va_up, zfit, zfitZ, Option.some.injEq, exists_eq_left', exists_eq_left, exists_and_left, true_and, and_true, ite_true, ite_false, if_true, if_false, va_rf, Value.int.injEq, Value.ref.injEq, Bool.false_eq_true, reduceIte, reduceCtorEq, Nat.reduceEqDiff, Nat.reduceAdd, Prod.mk.injEq, or_true, true_or, or_false, false_or, and_false, false_and, not_true_eq_false, not_false_eq_true, eq_self, and_self, or_self, zb_ne, zb_fit, zb_eq, znar_100, Bool.not_true, Bool.not_false, Bool.not_not, beq_self_eq_true, Bool.or_true, Bool.true_or, in_zb, zb_beq, zco, zu_off, zu_on, zrow_off, zrow_on, zo_add_i, zo_mul_i, zo_sub_i, zo_div_i, zo_rem_i, zi_add, zi_nat, zi_inb, zLT_i, zLE_i, zGT_i, zGE_i, zEQ_i, zNE_i, i32_inj, i32_0, i32_1, i32_2, i32_3, i32_4, i32_5, i32_6, i32_7, i32_8, i32_9, i32_10, i32_11, i32_12, i32_13, i32_14, i32_15, i32_16, i32_17, i32_18, i32_19, i32_20, i32_21, i32_24, i32_30, i32_31, i32_39, i32_40, i32_42, i32_49, i32_60, i32_70, i32_71, i32_76, i32_80, i32_99, i32_100, i32_255, i32_999, i32_1000, i32_9999, i32_1000000, i32_100000000, k0, k1, k2, k3, k4, k5, k6, k7, k8, o0, o1, o2, o3, o4, o5, o6, o7, o8]
  refine ⟨by decide, by omega, by omega, by decide, by omega, by omega, by decide, by omega, by omega, ?_⟩
  obtain ⟨f', e, q1, q2, q3⟩ := t_counts (f := zu (zrow (zrow (zrow f (t + 1) (va_cpy (f (o + 1)) (f (t + 1)) 0 0 14)) (t + 2) (va_cpy (f (o + 2)) (f (t + 2)) 0 0 7)) (t + 3) (va_cpy (f (o + 3)) (f (t + 3)) 0 0 49)) t 4 (f o 4)) hK'
  rw [wF_eq e]
  obtain ⟨a1, a2, a3, a4, a5, a6⟩ := hT
  refine ⟨f', rfl, fun i hi => ?_, fun k hk => ?_, fun k hk => ?_, fun k hk => ?_, ?_, fun k hk => ?_, ?_⟩
  · rw [q1 i (by omega) (by omega), zu_off (by omega), zrow_off (by omega), zrow_off (by omega), zrow_off (by omega)]
  · rw [q1 _ (by omega) (by omega), zu_off (by omega), zrow_off (by omega), zrow_off (by omega), zrow_on, cpy0 hk, a1 k hk]
  · rw [q1 _ (by omega) (by omega), zu_off (by omega), zrow_off (by omega), zrow_on, cpy0 hk, a2 k hk]
  · rw [q1 _ (by omega) (by omega), zu_off (by omega), zrow_on, cpy0 hk, a3 k hk]
  · rw [q2, zu_on, upd_ne (by omega), upd_self, a4]
  · rw [q3 k hk]
    unfold c0
    rw [if_neg (by omega)]
  · rw [q2, upd_self]
    rfl
/-! the sums of a town -/
