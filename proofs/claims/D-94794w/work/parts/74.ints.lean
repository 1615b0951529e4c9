/-! PHASE B: small ints. -/
set_option maxRecDepth 100000
theorem zo_add_i {a b : Nat} : zo_add (Int32.ofNat a) (Int32.ofNat b) = Int32.ofNat (a + b) := zi_add a b
theorem zo_mul_i {a b : Nat} : zo_mul (Int32.ofNat a) (Int32.ofNat b) = Int32.ofNat (a * b) := (Int32.ofNat_mul a b).symm
theorem i32_int {a : Nat} (h : a < 2147483648) : (Int32.ofNat a).toInt = (a : Int) := Int32.toInt_ofNat_of_lt h
theorem i32_inj {a b : Nat} (ha : a < 2147483648) (hb : b < 2147483648) : Int32.ofNat a = Int32.ofNat b ↔ a = b := by
  constructor
  · intro h
    have := congrArg Int32.toInt h
    rw [i32_int ha, i32_int hb] at this
    omega
  · intro h
    rw [h]
theorem zi_sub {a b : Nat} (hab : b ≤ a) (ha : a < 2147483648) : Int32.ofNat a - Int32.ofNat b = Int32.ofNat (a - b) := by
  apply Int32.toInt_inj.mp
  rw [Int32.toInt_sub, i32_int ha, i32_int (by omega), i32_int (by omega), Int.bmod_eq_of_le (by omega) (by omega)]
  omega
theorem zo_sub_i {a b : Nat} (hab : b ≤ a) (ha : a < 2147483648) : zo_sub (Int32.ofNat a) (Int32.ofNat b) = Int32.ofNat (a - b) := zi_sub hab ha
theorem zLT_i {a b : Nat} (ha : a < 2147483648) (hb : b < 2147483648) : zLT (Int32.ofNat a) (Int32.ofNat b) = decide (a < b) := by
  unfold zLT
  exact decide_eq_decide.mpr (zi_lt ha hb)
theorem zLE_i {a b : Nat} (ha : a < 2147483648) (hb : b < 2147483648) : zLE (Int32.ofNat a) (Int32.ofNat b) = decide (a ≤ b) := by
  unfold zLE
  exact decide_eq_decide.mpr (zi_le ha hb)
theorem zGT_i {a b : Nat} (ha : a < 2147483648) (hb : b < 2147483648) : zGT (Int32.ofNat a) (Int32.ofNat b) = decide (b < a) := by
  unfold zGT
  exact decide_eq_decide.mpr (zi_lt hb ha)
theorem zGE_i {a b : Nat} (ha : a < 2147483648) (hb : b < 2147483648) : zGE (Int32.ofNat a) (Int32.ofNat b) = decide (b ≤ a) := by
  unfold zGE
  exact decide_eq_decide.mpr (zi_le hb ha)
theorem zEQ_i {a b : Nat} (ha : a < 2147483648) (hb : b < 2147483648) : zEQ (Int32.ofNat a) (Int32.ofNat b) = decide (a = b) := by
  unfold zEQ
  exact decide_eq_decide.mpr (i32_inj ha hb)
theorem zNE_i {a b : Nat} (ha : a < 2147483648) (hb : b < 2147483648) : zNE (Int32.ofNat a) (Int32.ofNat b) = decide (¬ a = b) := by
  unfold zNE
  exact decide_eq_decide.mpr (not_congr (i32_inj ha hb))
theorem zo_div_i {a b : Nat} (ha : a < 2147483648) (hb : b < 2147483648) : zo_div (Int32.ofNat a) (Int32.ofNat b) = Int32.ofNat (a / b) := by
  unfold zo_div
  apply Int32.toInt_inj.mp
  have hd : a / b ≤ a := Nat.div_le_self a b
  rw [Int32.toInt_div, i32_int ha, i32_int hb, i32_int (by omega)]
  have e : (a : Int).tdiv (b : Int) = ((a / b : Nat) : Int) := by
    rw [Int.tdiv_eq_ediv_of_nonneg (Int.natCast_nonneg a)]
    exact (Int.natCast_ediv a b).symm
  rw [e]
  generalize a / b = q at hd
  exact Int.bmod_eq_of_le (by omega) (by omega)
theorem zo_rem_i {a b : Nat} (ha : a < 2147483648) (hb : b < 2147483648) : zo_rem (Int32.ofNat a) (Int32.ofNat b) = Int32.ofNat (a % b) := by
  have e1 : zo_rem (Int32.ofNat a) (Int32.ofNat b) = Int32.ofNat a - zo_mul (zo_div (Int32.ofNat a) (Int32.ofNat b)) (Int32.ofNat b) := rfl
  have hm : a / b * b ≤ a := Nat.div_mul_le_self a b
  rw [e1, zo_div_i ha hb, zo_mul_i, zi_sub hm ha]
  congr 1
  have := Nat.div_add_mod a b
  rw [Nat.mul_comm] at this
  omega
/-- every int that isn't below 0 is a small one -/
theorem i32_of {v : Int32} (h : 0 ≤ v) : ∃ n, n < 2147483648 ∧ v = Int32.ofNat n := by
  have h1 := Int32.le_iff_toInt_le.mp h
  have e0 : (0 : Int32).toInt = 0 := rfl
  rw [e0] at h1
  have h2 : v.toInt < 2147483648 := Int32.toInt_lt v
  refine ⟨v.toInt.toNat, by omega, ?_⟩
  apply Int32.toInt_inj.mp
  rw [i32_int (by omega)]
  omega
/-- v is a number below H -/
def isb (H : Nat) (v : Int32) : Bool := decide (0 ≤ v) && decide (v < Int32.ofNat H)
theorem isb_iff {H : Nat} {v : Int32} (hH : H < 2147483648) : isb H v = true ↔ ∃ n, n < H ∧ v = Int32.ofNat n := by
  unfold isb
  rw [Bool.and_eq_true, decide_eq_true_eq, decide_eq_true_eq]
  constructor
  · rintro ⟨h1, h2⟩
    obtain ⟨n, hn, rfl⟩ := i32_of h1
    exact ⟨n, (zi_lt hn hH).mp h2, rfl⟩
  · rintro ⟨n, hn, rfl⟩
    exact ⟨Int32.not_lt.mp (zi_nn (by omega)), (zi_lt (by omega) hH).mpr hn⟩
theorem isb_n {H n : Nat} (h : n < H) (hH : H < 2147483648) : isb H (Int32.ofNat n) = true := (isb_iff hH).mpr ⟨n, h, rfl⟩
theorem le_pred {v : Int32} {H : Nat} (hH : H < 2147483648) : v ≤ Int32.ofNat H - 1 ↔ v < Int32.ofNat H := by
  rw [Int32.le_iff_toInt_le, Int32.lt_iff_toInt_lt, Int32.toInt_sub, i32_int hH]
  have e1 : (1 : Int32).toInt = 1 := rfl
  rw [e1, Int.bmod_eq_of_le (by omega) (by omega)]
  omega
def zb (b : Bool) : Int32 := if b = true then 1 else 0
theorem zb_t : zb true = 1 := rfl
theorem zb_f : zb false = 0 := rfl
theorem zb_fit {b : Bool} : (zb b == 0 || zb b == 1) = true := by cases b <;> rfl
theorem zb_ne {b : Bool} : zNE (zb b) 0 = b := by cases b <;> rfl
theorem zb_eq {b : Bool} : zEQ (zb b) 0 = !b := by cases b <;> rfl
theorem in_zb {x y z : Int32} : (if y ≤ x ∧ x ≤ z then (1 : Int32) else 0) = zb (decide (y ≤ x) && decide (x ≤ z)) := by
  unfold zb
  by_cases h : y ≤ x ∧ x ≤ z
  · rw [if_pos h, decide_eq_true h.1, decide_eq_true h.2]; rfl
  · rw [if_neg h, if_neg]
    rw [Bool.and_eq_true, decide_eq_true_eq, decide_eq_true_eq]
    exact h
theorem i32_0 : (0 : Int32) = Int32.ofNat 0 := rfl
theorem i32_1 : (1 : Int32) = Int32.ofNat 1 := rfl
theorem i32_2 : (2 : Int32) = Int32.ofNat 2 := rfl
theorem i32_3 : (3 : Int32) = Int32.ofNat 3 := rfl
theorem i32_4 : (4 : Int32) = Int32.ofNat 4 := rfl
theorem i32_5 : (5 : Int32) = Int32.ofNat 5 := rfl
theorem i32_6 : (6 : Int32) = Int32.ofNat 6 := rfl
theorem i32_7 : (7 : Int32) = Int32.ofNat 7 := rfl
theorem i32_8 : (8 : Int32) = Int32.ofNat 8 := rfl
theorem i32_9 : (9 : Int32) = Int32.ofNat 9 := rfl
theorem i32_10 : (10 : Int32) = Int32.ofNat 10 := rfl
theorem i32_11 : (11 : Int32) = Int32.ofNat 11 := rfl
theorem i32_12 : (12 : Int32) = Int32.ofNat 12 := rfl
theorem i32_13 : (13 : Int32) = Int32.ofNat 13 := rfl
theorem i32_14 : (14 : Int32) = Int32.ofNat 14 := rfl
theorem i32_15 : (15 : Int32) = Int32.ofNat 15 := rfl
theorem i32_16 : (16 : Int32) = Int32.ofNat 16 := rfl
theorem i32_17 : (17 : Int32) = Int32.ofNat 17 := rfl
theorem i32_18 : (18 : Int32) = Int32.ofNat 18 := rfl
theorem i32_19 : (19 : Int32) = Int32.ofNat 19 := rfl
theorem i32_20 : (20 : Int32) = Int32.ofNat 20 := rfl
theorem i32_21 : (21 : Int32) = Int32.ofNat 21 := rfl
theorem i32_24 : (24 : Int32) = Int32.ofNat 24 := rfl
theorem i32_30 : (30 : Int32) = Int32.ofNat 30 := rfl
theorem i32_31 : (31 : Int32) = Int32.ofNat 31 := rfl
theorem i32_39 : (39 : Int32) = Int32.ofNat 39 := rfl
theorem i32_40 : (40 : Int32) = Int32.ofNat 40 := rfl
theorem i32_42 : (42 : Int32) = Int32.ofNat 42 := rfl
theorem i32_49 : (49 : Int32) = Int32.ofNat 49 := rfl
theorem i32_60 : (60 : Int32) = Int32.ofNat 60 := rfl
theorem i32_70 : (70 : Int32) = Int32.ofNat 70 := rfl
theorem i32_71 : (71 : Int32) = Int32.ofNat 71 := rfl
theorem i32_76 : (76 : Int32) = Int32.ofNat 76 := rfl
theorem i32_80 : (80 : Int32) = Int32.ofNat 80 := rfl
theorem i32_99 : (99 : Int32) = Int32.ofNat 99 := rfl
theorem i32_100 : (100 : Int32) = Int32.ofNat 100 := rfl
theorem i32_255 : (255 : Int32) = Int32.ofNat 255 := rfl
theorem i32_999 : (999 : Int32) = Int32.ofNat 999 := rfl
theorem i32_1000 : (1000 : Int32) = Int32.ofNat 1000 := rfl
theorem i32_9999 : (9999 : Int32) = Int32.ofNat 9999 := rfl
theorem i32_1000000 : (1000000 : Int32) = Int32.ofNat 1000000 := rfl
theorem i32_100000000 : (100000000 : Int32) = Int32.ofNat 100000000 := rfl
theorem znar_100 {v : Int32} : znar 100 v = v := rfl
theorem zb_beq {b : Bool} : ((zb b == (0 : Int32)) || (zb b == (1 : Int32))) = true := zb_fit
