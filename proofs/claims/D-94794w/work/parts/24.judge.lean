/-! JUDGEMENTS: this stretch of code does what that expression or statement means. -/
set_option maxRecDepth 100000
def zLT (x y : Int32) : Bool := decide (x < y)
def zLE (x y : Int32) : Bool := decide (x ≤ y)
def zGT (x y : Int32) : Bool := decide (y < x)
def zGE (x y : Int32) : Bool := decide (y ≤ x)
def zEQ (x y : Int32) : Bool := decide (x = y)
def zNE (x y : Int32) : Bool := decide (¬ x = y)
/-- a jump on two ints: to T if P holds of them, else to F -/
def zjc (own : String) (cc : ByteArray) (nL d : Nat) (ini : Bool) (pc T F : Nat) (P : Int32 → Int32 → Bool) : Prop := ∀ Z, zx own cc nL d ini Z → ∀ L ts st h x y, (P x y = true → zw Z nL T L ts st h) → (P x y = false → zw Z nL F L ts st h) → zw Z nL pc L ts (.int y :: .int x :: st) h
/-- a jump on one int, held against 0 -/
def zj0 (own : String) (cc : ByteArray) (nL d : Nat) (ini : Bool) (pc T F : Nat) (P : Int32 → Int32 → Bool) : Prop := ∀ Z, zx own cc nL d ini Z → ∀ L ts st h x, (P x 0 = true → zw Z nL T L ts st h) → (P x 0 = false → zw Z nL F L ts st h) → zw Z nL pc L ts (.int x :: st) h
section ZJ
variable {own : String} {cc : ByteArray} {nL d pc T F : Nat} {ini : Bool} {off : Int}
theorem zjT_eq (hd : decode cc pc = .ok (.if_icmp .eq off, 3)) (ht : (pc : Int) + off = (T : Int)) : zjc own cc nL d ini pc T (pc + 3) zEQ := by
  intro Z hX L ts st h x y kt kf
  obtain ⟨p, l, e, R, s, m, args, below, meth, co, Q, A, G, cC, cS⟩ := Z
  intro ad H locs ls cells slots hr hlv hok
  exact lv_icmp_eq hX.1 hX.2.1 hd ht (fun q => kt (by unfold zEQ; exact decide_eq_true q) ad H locs ls cells slots hr hlv (zok_tl (zok_tl hok))) (fun q => kf (by unfold zEQ; exact decide_eq_false q) ad H locs ls cells slots hr hlv (zok_tl (zok_tl hok)))
theorem z0T_eq (hd : decode cc pc = .ok (.ifCond .eq off, 3)) (ht : (pc : Int) + off = (T : Int)) : zj0 own cc nL d ini pc T (pc + 3) zEQ := by
  intro Z hX L ts st h x kt kf
  obtain ⟨p, l, e, R, s, m, args, below, meth, co, Q, A, G, cC, cS⟩ := Z
  intro ad H locs ls cells slots hr hlv hok
  exact lv_if_eq hX.1 hX.2.1 hd ht (fun q => kt (by unfold zEQ; exact decide_eq_true q) ad H locs ls cells slots hr hlv (zok_tl hok)) (fun q => kf (by unfold zEQ; exact decide_eq_false q) ad H locs ls cells slots hr hlv (zok_tl hok))
theorem zjT_ne (hd : decode cc pc = .ok (.if_icmp .ne off, 3)) (ht : (pc : Int) + off = (T : Int)) : zjc own cc nL d ini pc T (pc + 3) zNE := by
  intro Z hX L ts st h x y kt kf
  obtain ⟨p, l, e, R, s, m, args, below, meth, co, Q, A, G, cC, cS⟩ := Z
  intro ad H locs ls cells slots hr hlv hok
  exact lv_icmp_ne hX.1 hX.2.1 hd ht (fun q => kt (by unfold zNE; exact decide_eq_true q) ad H locs ls cells slots hr hlv (zok_tl (zok_tl hok))) (fun q => kf (by unfold zNE; exact decide_eq_false (fun z => z q)) ad H locs ls cells slots hr hlv (zok_tl (zok_tl hok)))
theorem z0T_ne (hd : decode cc pc = .ok (.ifCond .ne off, 3)) (ht : (pc : Int) + off = (T : Int)) : zj0 own cc nL d ini pc T (pc + 3) zNE := by
  intro Z hX L ts st h x kt kf
  obtain ⟨p, l, e, R, s, m, args, below, meth, co, Q, A, G, cC, cS⟩ := Z
  intro ad H locs ls cells slots hr hlv hok
  exact lv_if_ne hX.1 hX.2.1 hd ht (fun q => kt (by unfold zNE; exact decide_eq_true q) ad H locs ls cells slots hr hlv (zok_tl hok)) (fun q => kf (by unfold zNE; exact decide_eq_false (fun z => z q)) ad H locs ls cells slots hr hlv (zok_tl hok))
theorem zjT_lt (hd : decode cc pc = .ok (.if_icmp .lt off, 3)) (ht : (pc : Int) + off = (T : Int)) : zjc own cc nL d ini pc T (pc + 3) zLT := by
  intro Z hX L ts st h x y kt kf
  obtain ⟨p, l, e, R, s, m, args, below, meth, co, Q, A, G, cC, cS⟩ := Z
  intro ad H locs ls cells slots hr hlv hok
  exact lv_icmp_lt hX.1 hX.2.1 hd ht (fun q => kt (by unfold zLT; exact decide_eq_true q) ad H locs ls cells slots hr hlv (zok_tl (zok_tl hok))) (fun q => kf (by unfold zLT; exact decide_eq_false q) ad H locs ls cells slots hr hlv (zok_tl (zok_tl hok)))
theorem z0T_lt (hd : decode cc pc = .ok (.ifCond .lt off, 3)) (ht : (pc : Int) + off = (T : Int)) : zj0 own cc nL d ini pc T (pc + 3) zLT := by
  intro Z hX L ts st h x kt kf
  obtain ⟨p, l, e, R, s, m, args, below, meth, co, Q, A, G, cC, cS⟩ := Z
  intro ad H locs ls cells slots hr hlv hok
  exact lv_if_lt hX.1 hX.2.1 hd ht (fun q => kt (by unfold zLT; exact decide_eq_true q) ad H locs ls cells slots hr hlv (zok_tl hok)) (fun q => kf (by unfold zLT; exact decide_eq_false q) ad H locs ls cells slots hr hlv (zok_tl hok))
theorem zjT_ge (hd : decode cc pc = .ok (.if_icmp .ge off, 3)) (ht : (pc : Int) + off = (T : Int)) : zjc own cc nL d ini pc T (pc + 3) zGE := by
  intro Z hX L ts st h x y kt kf
  obtain ⟨p, l, e, R, s, m, args, below, meth, co, Q, A, G, cC, cS⟩ := Z
  intro ad H locs ls cells slots hr hlv hok
  exact lv_icmp_ge hX.1 hX.2.1 hd ht (fun q => kt (by unfold zGE; exact decide_eq_true q) ad H locs ls cells slots hr hlv (zok_tl (zok_tl hok))) (fun q => kf (by unfold zGE; exact decide_eq_false q) ad H locs ls cells slots hr hlv (zok_tl (zok_tl hok)))
theorem z0T_ge (hd : decode cc pc = .ok (.ifCond .ge off, 3)) (ht : (pc : Int) + off = (T : Int)) : zj0 own cc nL d ini pc T (pc + 3) zGE := by
  intro Z hX L ts st h x kt kf
  obtain ⟨p, l, e, R, s, m, args, below, meth, co, Q, A, G, cC, cS⟩ := Z
  intro ad H locs ls cells slots hr hlv hok
  exact lv_if_ge hX.1 hX.2.1 hd ht (fun q => kt (by unfold zGE; exact decide_eq_true q) ad H locs ls cells slots hr hlv (zok_tl hok)) (fun q => kf (by unfold zGE; exact decide_eq_false q) ad H locs ls cells slots hr hlv (zok_tl hok))
theorem zjT_gt (hd : decode cc pc = .ok (.if_icmp .gt off, 3)) (ht : (pc : Int) + off = (T : Int)) : zjc own cc nL d ini pc T (pc + 3) zGT := by
  intro Z hX L ts st h x y kt kf
  obtain ⟨p, l, e, R, s, m, args, below, meth, co, Q, A, G, cC, cS⟩ := Z
  intro ad H locs ls cells slots hr hlv hok
  exact lv_icmp_gt hX.1 hX.2.1 hd ht (fun q => kt (by unfold zGT; exact decide_eq_true q) ad H locs ls cells slots hr hlv (zok_tl (zok_tl hok))) (fun q => kf (by unfold zGT; exact decide_eq_false q) ad H locs ls cells slots hr hlv (zok_tl (zok_tl hok)))
theorem z0T_gt (hd : decode cc pc = .ok (.ifCond .gt off, 3)) (ht : (pc : Int) + off = (T : Int)) : zj0 own cc nL d ini pc T (pc + 3) zGT := by
  intro Z hX L ts st h x kt kf
  obtain ⟨p, l, e, R, s, m, args, below, meth, co, Q, A, G, cC, cS⟩ := Z
  intro ad H locs ls cells slots hr hlv hok
  exact lv_if_gt hX.1 hX.2.1 hd ht (fun q => kt (by unfold zGT; exact decide_eq_true q) ad H locs ls cells slots hr hlv (zok_tl hok)) (fun q => kf (by unfold zGT; exact decide_eq_false q) ad H locs ls cells slots hr hlv (zok_tl hok))
theorem zjT_le (hd : decode cc pc = .ok (.if_icmp .le off, 3)) (ht : (pc : Int) + off = (T : Int)) : zjc own cc nL d ini pc T (pc + 3) zLE := by
  intro Z hX L ts st h x y kt kf
  obtain ⟨p, l, e, R, s, m, args, below, meth, co, Q, A, G, cC, cS⟩ := Z
  intro ad H locs ls cells slots hr hlv hok
  exact lv_icmp_le hX.1 hX.2.1 hd ht (fun q => kt (by unfold zLE; exact decide_eq_true q) ad H locs ls cells slots hr hlv (zok_tl (zok_tl hok))) (fun q => kf (by unfold zLE; exact decide_eq_false q) ad H locs ls cells slots hr hlv (zok_tl (zok_tl hok)))
theorem z0T_le (hd : decode cc pc = .ok (.ifCond .le off, 3)) (ht : (pc : Int) + off = (T : Int)) : zj0 own cc nL d ini pc T (pc + 3) zLE := by
  intro Z hX L ts st h x kt kf
  obtain ⟨p, l, e, R, s, m, args, below, meth, co, Q, A, G, cC, cS⟩ := Z
  intro ad H locs ls cells slots hr hlv hok
  exact lv_if_le hX.1 hX.2.1 hd ht (fun q => kt (by unfold zLE; exact decide_eq_true q) ad H locs ls cells slots hr hlv (zok_tl hok)) (fun q => kf (by unfold zLE; exact decide_eq_false q) ad H locs ls cells slots hr hlv (zok_tl hok))
theorem zneg_lt {x y : Int32} : zLT x y = !zGE x y := by
  unfold zLT zGE
  by_cases q : x < y
  · rw [decide_eq_true q, decide_eq_false (Int32.not_le.mpr q)]; rfl
  · rw [decide_eq_false q, decide_eq_true (Int32.not_lt.mp q)]; rfl
theorem zneg_ge {x y : Int32} : zGE x y = !zLT x y := by rw [zneg_lt, Bool.not_not]
theorem zneg_gt {x y : Int32} : zGT x y = !zLE x y := by
  unfold zGT zLE
  by_cases q : y < x
  · rw [decide_eq_true q, decide_eq_false (Int32.not_le.mpr q)]; rfl
  · rw [decide_eq_false q, decide_eq_true (Int32.not_lt.mp q)]; rfl
theorem zneg_le {x y : Int32} : zLE x y = !zGT x y := by rw [zneg_gt, Bool.not_not]
theorem zneg_eq {x y : Int32} : zEQ x y = !zNE x y := by
  unfold zEQ zNE
  by_cases q : x = y
  · rw [decide_eq_true q, decide_eq_false (fun z => z q)]; rfl
  · rw [decide_eq_false q, decide_eq_true q]; rfl
theorem zneg_ne {x y : Int32} : zNE x y = !zEQ x y := by rw [zneg_eq, Bool.not_not]
theorem zjF_ne (hd : decode cc pc = .ok (.if_icmp .eq off, 3)) (ht : (pc : Int) + off = (F : Int)) : zjc own cc nL d ini pc (pc + 3) F zNE := fun Z hX L ts st h x y kt kf =>
  zjT_eq hd ht Z hX L ts st h x y (fun q => kf (by rw [zneg_ne, q]; rfl)) (fun q => kt (by rw [zneg_ne, q]; rfl))
theorem z0F_ne (hd : decode cc pc = .ok (.ifCond .eq off, 3)) (ht : (pc : Int) + off = (F : Int)) : zj0 own cc nL d ini pc (pc + 3) F zNE := fun Z hX L ts st h x kt kf =>
  z0T_eq hd ht Z hX L ts st h x (fun q => kf (by rw [zneg_ne, q]; rfl)) (fun q => kt (by rw [zneg_ne, q]; rfl))
theorem zjF_eq (hd : decode cc pc = .ok (.if_icmp .ne off, 3)) (ht : (pc : Int) + off = (F : Int)) : zjc own cc nL d ini pc (pc + 3) F zEQ := fun Z hX L ts st h x y kt kf =>
  zjT_ne hd ht Z hX L ts st h x y (fun q => kf (by rw [zneg_eq, q]; rfl)) (fun q => kt (by rw [zneg_eq, q]; rfl))
theorem z0F_eq (hd : decode cc pc = .ok (.ifCond .ne off, 3)) (ht : (pc : Int) + off = (F : Int)) : zj0 own cc nL d ini pc (pc + 3) F zEQ := fun Z hX L ts st h x kt kf =>
  z0T_ne hd ht Z hX L ts st h x (fun q => kf (by rw [zneg_eq, q]; rfl)) (fun q => kt (by rw [zneg_eq, q]; rfl))
theorem zjF_ge (hd : decode cc pc = .ok (.if_icmp .lt off, 3)) (ht : (pc : Int) + off = (F : Int)) : zjc own cc nL d ini pc (pc + 3) F zGE := fun Z hX L ts st h x y kt kf =>
  zjT_lt hd ht Z hX L ts st h x y (fun q => kf (by rw [zneg_ge, q]; rfl)) (fun q => kt (by rw [zneg_ge, q]; rfl))
theorem z0F_ge (hd : decode cc pc = .ok (.ifCond .lt off, 3)) (ht : (pc : Int) + off = (F : Int)) : zj0 own cc nL d ini pc (pc + 3) F zGE := fun Z hX L ts st h x kt kf =>
  z0T_lt hd ht Z hX L ts st h x (fun q => kf (by rw [zneg_ge, q]; rfl)) (fun q => kt (by rw [zneg_ge, q]; rfl))
theorem zjF_lt (hd : decode cc pc = .ok (.if_icmp .ge off, 3)) (ht : (pc : Int) + off = (F : Int)) : zjc own cc nL d ini pc (pc + 3) F zLT := fun Z hX L ts st h x y kt kf =>
  zjT_ge hd ht Z hX L ts st h x y (fun q => kf (by rw [zneg_lt, q]; rfl)) (fun q => kt (by rw [zneg_lt, q]; rfl))
theorem z0F_lt (hd : decode cc pc = .ok (.ifCond .ge off, 3)) (ht : (pc : Int) + off = (F : Int)) : zj0 own cc nL d ini pc (pc + 3) F zLT := fun Z hX L ts st h x kt kf =>
  z0T_ge hd ht Z hX L ts st h x (fun q => kf (by rw [zneg_lt, q]; rfl)) (fun q => kt (by rw [zneg_lt, q]; rfl))
theorem zjF_le (hd : decode cc pc = .ok (.if_icmp .gt off, 3)) (ht : (pc : Int) + off = (F : Int)) : zjc own cc nL d ini pc (pc + 3) F zLE := fun Z hX L ts st h x y kt kf =>
  zjT_gt hd ht Z hX L ts st h x y (fun q => kf (by rw [zneg_le, q]; rfl)) (fun q => kt (by rw [zneg_le, q]; rfl))
theorem z0F_le (hd : decode cc pc = .ok (.ifCond .gt off, 3)) (ht : (pc : Int) + off = (F : Int)) : zj0 own cc nL d ini pc (pc + 3) F zLE := fun Z hX L ts st h x kt kf =>
  z0T_gt hd ht Z hX L ts st h x (fun q => kf (by rw [zneg_le, q]; rfl)) (fun q => kt (by rw [zneg_le, q]; rfl))
theorem zjF_gt (hd : decode cc pc = .ok (.if_icmp .le off, 3)) (ht : (pc : Int) + off = (F : Int)) : zjc own cc nL d ini pc (pc + 3) F zGT := fun Z hX L ts st h x y kt kf =>
  zjT_le hd ht Z hX L ts st h x y (fun q => kf (by rw [zneg_gt, q]; rfl)) (fun q => kt (by rw [zneg_gt, q]; rfl))
theorem z0F_gt (hd : decode cc pc = .ok (.ifCond .le off, 3)) (ht : (pc : Int) + off = (F : Int)) : zj0 own cc nL d ini pc (pc + 3) F zGT := fun Z hX L ts st h x kt kf =>
  z0T_le hd ht Z hX L ts st h x (fun q => kf (by rw [zneg_gt, q]; rfl)) (fun q => kt (by rw [zneg_gt, q]; rfl))
/-- the answer of a method: an int, a reference, nothing -/
def zretI (cc : ByteArray) (Z : ZK) (v : Int32) (h : Hp) : Prop :=
  match Z with
  | (p, l, e, R, s, m, args, below, meth, c, Q, A, G, cC, cS) => ∀ (ad : Nat → Nat) (H : Heap) (locs : List Loc) (ls : Array Slot) (cells slots pc : Nat), zr G A s R cC cS ad h H locs cells slots → decode cc pc = .ok (.ireturn, 1) → W p l e R s m args below meth c H locs cells slots Q (F0 m pc ls [.int v])
def zretR (cc : ByteArray) (Z : ZK) (r : Option Nat) (h : Hp) : Prop :=
  match Z with
  | (p, l, e, R, s, m, args, below, meth, c, Q, A, G, cC, cS) => ∀ (ad : Nat → Nat) (H : Heap) (locs : List Loc) (ls : Array Slot) (cells slots pc : Nat), zr G A s R cC cS ad h H locs cells slots → (∀ a, r = some a → zid h a) → decode cc pc = .ok (.areturn, 1) → W p l e R s m args below meth c H locs cells slots Q (F0 m pc ls [va_rf (r.map ad)])
def zretV (cc : ByteArray) (Z : ZK) (h : Hp) : Prop :=
  match Z with
  | (p, l, e, R, s, m, args, below, meth, c, Q, A, G, cC, cS) => ∀ (ad : Nat → Nat) (H : Heap) (locs : List Loc) (ls : Array Slot) (cells slots pc : Nat), zr G A s R cC cS ad h H locs cells slots → decode cc pc = .ok (.return_, 1) → W p l e R s m args below meth c H locs cells slots Q (F0 m pc ls [])
def zret (rk : Nat) (cc : ByteArray) (Z : ZK) (L : Fr) (h : Hp) : Prop := if rk = 0 then zretI cc Z (L.1 999) h else if rk = 1 then zretR cc Z (L.2 999) h else zretV cc Z h
/-- new NoSuchElementException(), thrown -/
def zthr (cc : ByteArray) (Z : ZK) (h : Hp) : Prop :=
  match Z with
  | (p, l, e, R, s, m, args, below, meth, c, Q, A, G, cC, cS) => ∀ (ad : Nat → Nat) (H : Heap) (locs : List Loc) (ls : Array Slot) (cells slots pc ix iy : Nat), ls.size = c.maxLocals → zr G A s R cC cS ad h H locs cells slots → decode cc pc = .ok (.new ix, 3) → decode cc (pc + 3) = .ok (.dup, 1) → decode cc (pc + 4) = .ok (.invokespecial iy, 3) → decode cc (pc + 7) = .ok (.athrow, 1) → ix = 235 ∧ iy = 237 → W p l e R s m args below meth c H locs cells slots Q (F0 m pc ls [])
def zj_I (own : String) (cc : ByteArray) (nL d : Nat) (ini : Bool) (ts : List Bool) (k a b : Nat) (e : ZI) : Prop := (∀ L h v h', e L h = some (v, h') → zle h h') ∧ ∀ Z, zx own cc nL d ini Z → ∀ L st h v h', e L h = some (v, h') → zcap Z h' → zwt st ≤ k → zw Z nL b L ts (.int v :: st) h' → zw Z nL a L ts st h
/-- an int, made long -/
def zj_L (own : String) (cc : ByteArray) (nL d : Nat) (ini : Bool) (ts : List Bool) (k a b : Nat) (e : ZI) : Prop := (∀ L h v h', e L h = some (v, h') → zle h h') ∧ ∀ Z, zx own cc nL d ini Z → ∀ L st h v h', e L h = some (v, h') → zcap Z h' → zwt st ≤ k → zw Z nL b L ts (.long v.toInt64 :: st) h' → zw Z nL a L ts st h
def zj_R (own : String) (cc : ByteArray) (nL d : Nat) (ini : Bool) (ts : List Bool) (k a b : Nat) (e : ZR) : Prop := (∀ L h v h', e L h = some (v, h') → zle h h') ∧ ∀ Z, zx own cc nL d ini Z → ∀ L st h v h', e L h = some (v, h') → zcap Z h' → zwt st ≤ k → zw Z nL b L ts (va_rf v :: st) h' → zw Z nL a L ts st h
def zj_C (own : String) (cc : ByteArray) (nL d : Nat) (ini : Bool) (ts : List Bool) (k a T F : Nat) (e : ZC) : Prop := (∀ L h v h', e L h = some (v, h') → zle h h') ∧ ∀ Z, zx own cc nL d ini Z → ∀ L st h v h', e L h = some (v, h') → zcap Z h' → zwt st ≤ k → (v = true → zw Z nL T L ts st h') → (v = false → zw Z nL F L ts st h') → zw Z nL a L ts st h
def zj_A (own : String) (cc : ByteArray) (nL d : Nat) (ini : Bool) (ts : List Bool) (k n a b : Nat) (e : ZA) : Prop := (∀ L h v h', e L h = some (v, h') → zle h h' ∧ v.length = n ∧ zwt v = n) ∧ ∀ Z, zx own cc nL d ini Z → ∀ L st h v h', e L h = some (v, h') → zcap Z h' → zwt st ≤ k → zw Z nL b L ts (v.reverse ++ st) h' → zw Z nL a L ts st h
def zj_S (own : String) (cc : ByteArray) (nL d : Nat) (ini : Bool) (rk : Nat) (ts tb ts2 : List Bool) (a x pb pk : Nat) (s : ZS) : Prop := (∀ L h r, s L h = some r → zle h r.2.2) ∧ ∀ Z, zx own cc nL d ini Z → ∀ L h r, s L h = some r → zcap Z r.2.2 → (r.1 = 0 → zw Z nL x r.2.1 ts2 [] r.2.2) → (r.1 = 1 → zw Z nL pb r.2.1 tb [] r.2.2) → (r.1 = 2 → zw Z nL pk r.2.1 tb [] r.2.2) → (r.1 = 3 → zret rk cc Z r.2.1 r.2.2) → (r.1 = 4 → zthr cc Z r.2.2) → zw Z nL a L ts [] h
theorem zwt_c {v : Value} {st : List Value} : zwt (v :: st) = v.category + zwt st := by unfold zwt; rw [List.map_cons, List.sum_cons]
theorem zwt_a {a b : List Value} : zwt (a ++ b) = zwt a + zwt b := by unfold zwt; rw [List.map_append, List.sum_append]
theorem zwt_r {a : List Value} : zwt a.reverse = zwt a := by unfold zwt; rw [List.map_reverse, List.sum_reverse]
variable {ts tb ts2 : List Bool} {k a b c x pb pk : Nat}
/-! constants and locals -/
theorem zj_iconst {v : Int32} (n : Int) (hv : Int32.ofInt n = v) (hd : decode cc a = .ok (.iconst n, 1)) : zj_I own cc nL d ini ts k a (a + 1) (ze_c v) :=
  ⟨fun L h w h' e => by cases e; exact zle_rfl, fun Z hX L st h w h' e _ _ kk => by cases e; exact zw_const hX n hv hd kk⟩
theorem zj_bipush {v : Int32} (n : Int) (hv : (Int8.ofInt n).toInt32 = v) (hd : decode cc a = .ok (.bipush n, 2)) : zj_I own cc nL d ini ts k a (a + 2) (ze_c v) :=
  ⟨fun L h w h' e => by cases e; exact zle_rfl, fun Z hX L st h w h' e _ _ kk => by cases e; exact zw_bipush hX n hv hd kk⟩
theorem zj_sipush {v : Int32} (n : Int) (hv : (Int16.ofInt n).toInt32 = v) (hd : decode cc a = .ok (.sipush n, 3)) : zj_I own cc nL d ini ts k a (a + 3) (ze_c v) :=
  ⟨fun L h w h' e => by cases e; exact zle_rfl, fun Z hX L st h w h' e _ _ kk => by cases e; exact zw_sipush hX n hv hd kk⟩
theorem zj_ldc {v : Int32} {ix : Nat} (hw : Cond.constant own ix v ∈ lw_all) (hd : decode cc a = .ok (.ldc ix, 2)) : zj_I own cc nL d ini ts k a (a + 2) (ze_c v) :=
  ⟨fun L h w h' e => by cases e; exact zle_rfl, fun Z hX L st h w h' e _ _ kk => by cases e; exact zw_ldc hX hw hd kk⟩
theorem zj_ldcw {v : Int32} {ix : Nat} (hw : Cond.constant own ix v ∈ lw_all) (hd : decode cc a = .ok (.ldc_w ix, 3)) : zj_I own cc nL d ini ts k a (a + 3) (ze_c v) :=
  ⟨fun L h w h' e => by cases e; exact zle_rfl, fun Z hX L st h w h' e _ _ kk => by cases e; exact zw_ldcw hX hw hd kk⟩
theorem zj_iload_n {n : Fin 4} {i : Nat} (hi : (n : Nat) = i) (ht : ts[i]? = some false) (hd : decode cc a = .ok (.iload_n n, 1)) : zj_I own cc nL d ini ts k a (a + 1) (ze_l i) :=
  ⟨fun L h w h' e => by cases e; exact zle_rfl, fun Z hX L st h w h' e _ _ kk => by cases e; exact zw_iload_n hX hi ht hd kk⟩
theorem zj_iload {i : Nat} (ht : ts[i]? = some false) (hd : decode cc a = .ok (.iload i, 2)) : zj_I own cc nL d ini ts k a (a + 2) (ze_l i) :=
  ⟨fun L h w h' e => by cases e; exact zle_rfl, fun Z hX L st h w h' e _ _ kk => by cases e; exact zw_iload hX ht hd kk⟩
theorem zj_aload_n {n : Fin 4} {i : Nat} (hi : (n : Nat) = i) (ht : ts[i]? = some true) (hd : decode cc a = .ok (.aload_n n, 1)) : zj_R own cc nL d ini ts k a (a + 1) (zr_l i) :=
  ⟨fun L h w h' e => by cases e; exact zle_rfl, fun Z hX L st h w h' e _ _ kk => by cases e; exact zw_aload_n hX hi ht hd kk⟩
theorem zj_aload {i : Nat} (ht : ts[i]? = some true) (hd : decode cc a = .ok (.aload i, 2)) : zj_R own cc nL d ini ts k a (a + 2) (zr_l i) :=
  ⟨fun L h w h' e => by cases e; exact zle_rfl, fun Z hX L st h w h' e _ _ kk => by cases e; exact zw_aload hX ht hd kk⟩
theorem zj_null (hd : decode cc a = .ok (.aconst_null, 1)) : zj_R own cc nL d ini ts k a (a + 1) zr_n :=
  ⟨fun L h w h' e => by cases e; exact zle_rfl, fun Z hX L st h w h' e _ _ kk => by cases e; exact zw_null hX hd kk⟩
/-! longs -/
theorem zj_i2l {e : ZI} (h1 : zj_I own cc nL d ini ts k a b e) (hd : decode cc b = .ok (.i2l, 1)) : zj_L own cc nL d ini ts k a (b + 1) e :=
  ⟨h1.1, fun Z hX L st h w h' ee hc hk kk => h1.2 Z hX L st h w h' ee hc hk (zw_i2l hX hd kk)⟩
theorem zj_ldc2 {v : Int32} {w : Int64} {ix : Nat} (hv : v.toInt64 = w) (hw : Cond.constantLong own ix w ∈ lw_all) (hd : decode cc a = .ok (.ldc2_w ix, 3)) : zj_L own cc nL d ini ts k a (a + 3) (ze_c v) :=
  ⟨fun L h w h' e => by cases e; exact zle_rfl, fun Z hX L st h w h' e _ _ kk => by cases e; subst hv; exact zw_ldc2 hX hw hd kk⟩
theorem zj_lconst {v : Int32} {n : Fin 2} (hv : Int64.ofNat (n : Nat) = v.toInt64) (hd : decode cc a = .ok (.lconst n, 1)) : zj_L own cc nL d ini ts k a (a + 1) (ze_c v) :=
  ⟨fun L h w h' e => by cases e; exact zle_rfl, fun Z hX L st h w h' e _ _ kk => by cases e; exact zw_lconst hX hv hd kk⟩
/-! fields -/
theorem zj_g {ix q N f : Nat} {e : ZR} (h1 : zj_R own cc nL d ini ts k a b e) (hF : zfld own ix q N f) (hz : zfr q f = false) (hd : decode cc b = .ok (.getfield ix, 3)) : zj_I own cc nL d ini ts k a (b + 3) (ze_g q N f e) := by
  have key : ∀ L h v h', ze_g q N f e L h = some (v, h') → ∃ o, e L h = some (some o, h') ∧ h'.2.2[o]? = some (q, N) ∧ v = h'.1 o f := by
    intro L h v h' ee
    obtain ⟨⟨r, h2⟩, e1, e2⟩ := Option.bind_eq_some_iff.mp ee
    cases r with
    | none => cases e2
    | some o =>
      dsimp only at e2
      by_cases hh : h2.2.2[o]? = some (q, N)
      · rw [if_pos hh] at e2
        cases e2
        exact ⟨o, e1, hh, rfl⟩
      · rw [if_neg hh] at e2
        cases e2
  refine ⟨fun L h v h' ee => ?_, fun Z hX L st h v h' ee hc hk kk => ?_⟩
  · obtain ⟨o, e1, -, -⟩ := key L h v h' ee
    exact h1.1 L h _ h' e1
  · obtain ⟨o, e1, e2, rfl⟩ := key L h v h' ee
    exact h1.2 Z hX L st h _ h' e1 hc hk (zw_getI hX hF hz hd e2 kk)
theorem zj_rg {ix q N f : Nat} {e : ZR} (h1 : zj_R own cc nL d ini ts k a b e) (hF : zfld own ix q N f) (hz : zfr q f = true) (hd : decode cc b = .ok (.getfield ix, 3)) : zj_R own cc nL d ini ts k a (b + 3) (zr_g q N f e) := by
  have key : ∀ L h v h', zr_g q N f e L h = some (v, h') → ∃ o, e L h = some (some o, h') ∧ h'.2.2[o]? = some (q, N) ∧ v = h'.2.1 o f := by
    intro L h v h' ee
    obtain ⟨⟨r, h2⟩, e1, e2⟩ := Option.bind_eq_some_iff.mp ee
    cases r with
    | none => cases e2
    | some o =>
      dsimp only at e2
      by_cases hh : h2.2.2[o]? = some (q, N)
      · rw [if_pos hh] at e2
        cases e2
        exact ⟨o, e1, hh, rfl⟩
      · rw [if_neg hh] at e2
        cases e2
  refine ⟨fun L h v h' ee => ?_, fun Z hX L st h v h' ee hc hk kk => ?_⟩
  · obtain ⟨o, e1, -, -⟩ := key L h v h' ee
    exact h1.1 L h _ h' e1
  · obtain ⟨o, e1, e2, rfl⟩ := key L h v h' ee
    exact h1.2 Z hX L st h _ h' e1 hc hk (zw_getR hX hF hz hd e2 kk)
/-! arrays -/
theorem ze_a_key {kd : Nat} {e : ZR} {i : ZI} {L : Fr} {h h' : Hp} {v : Int32} (ee : ze_a kd e i L h = some (v, h')) : ∃ o h1 j n, e L h = some (some o, h1) ∧ i L h1 = some (j, h') ∧ h'.2.2[o]? = some (kd, n) ∧ zinb j n = true ∧ v = h'.1 o j.toNatClampNeg := by
  obtain ⟨⟨r, h2⟩, e1, e2⟩ := Option.bind_eq_some_iff.mp ee
  obtain ⟨⟨j, h3⟩, e3, e4⟩ := Option.bind_eq_some_iff.mp e2
  cases r with
  | none => cases e4
  | some o =>
    dsimp only at e3 e4
    cases hq : h3.2.2[o]? with
    | none => rw [hq] at e4; cases e4
    | some q =>
      rw [hq] at e4
      dsimp only at e4
      by_cases hh : q.1 = kd ∧ zinb j q.2 = true
      · rw [if_pos hh] at e4
        cases e4
        obtain ⟨q1, q2⟩ := q
        obtain ⟨rfl, hb⟩ := hh
        exact ⟨o, h2, j, q2, e1, e3, hq, hb, rfl⟩
      · rw [if_neg hh] at e4
        cases e4
theorem zj_ia {e : ZR} {i : ZI} (h1 : zj_R own cc nL d ini ts k a b e) (h2 : zj_I own cc nL d ini ts (k + 1) b c i) (hd : decode cc c = .ok (.iaload, 1)) : zj_I own cc nL d ini ts k a (c + 1) (ze_a 100 e i) := by
  refine ⟨fun L h v h' ee => ?_, fun Z hX L st h v h' ee hc hk kk => ?_⟩
  · obtain ⟨o, h3, j, n, e1, e2, -⟩ := ze_a_key ee
    exact zle_trans (h1.1 L h _ _ e1) (h2.1 L _ _ _ e2)
  · obtain ⟨o, h3, j, n, e1, e2, e3, e4, rfl⟩ := ze_a_key ee
    refine h1.2 Z hX L st h _ h3 e1 (zcap_le (h2.1 L _ _ _ e2) hc) hk ?_
    refine h2.2 Z hX L _ h3 _ h' e2 hc (by rw [zwt_c]; show 1 + zwt st ≤ k + 1; omega) ?_
    exact zw_iald hX hd e3 e4 kk
theorem zj_ba {e : ZR} {i : ZI} (h1 : zj_R own cc nL d ini ts k a b e) (h2 : zj_I own cc nL d ini ts (k + 1) b c i) (hd : decode cc c = .ok (.baload, 1)) : zj_I own cc nL d ini ts k a (c + 1) (ze_a 101 e i) := by
  refine ⟨fun L h v h' ee => ?_, fun Z hX L st h v h' ee hc hk kk => ?_⟩
  · obtain ⟨o, h3, j, n, e1, e2, -⟩ := ze_a_key ee
    exact zle_trans (h1.1 L h _ _ e1) (h2.1 L _ _ _ e2)
  · obtain ⟨o, h3, j, n, e1, e2, e3, e4, rfl⟩ := ze_a_key ee
    refine h1.2 Z hX L st h _ h3 e1 (zcap_le (h2.1 L _ _ _ e2) hc) hk ?_
    refine h2.2 Z hX L _ h3 _ h' e2 hc (by rw [zwt_c]; show 1 + zwt st ≤ k + 1; omega) ?_
    exact zw_bald hX hd e3 e4 kk
theorem zj_za {e : ZR} {i : ZI} (h1 : zj_R own cc nL d ini ts k a b e) (h2 : zj_I own cc nL d ini ts (k + 1) b c i) (hd : decode cc c = .ok (.baload, 1)) : zj_I own cc nL d ini ts k a (c + 1) (ze_a 102 e i) := by
  refine ⟨fun L h v h' ee => ?_, fun Z hX L st h v h' ee hc hk kk => ?_⟩
  · obtain ⟨o, h3, j, n, e1, e2, -⟩ := ze_a_key ee
    exact zle_trans (h1.1 L h _ _ e1) (h2.1 L _ _ _ e2)
  · obtain ⟨o, h3, j, n, e1, e2, e3, e4, rfl⟩ := ze_a_key ee
    refine h1.2 Z hX L st h _ h3 e1 (zcap_le (h2.1 L _ _ _ e2) hc) hk ?_
    refine h2.2 Z hX L _ h3 _ h' e2 hc (by rw [zwt_c]; show 1 + zwt st ≤ k + 1; omega) ?_
    exact zw_zald hX hd e3 e4 kk
theorem zcat_r1 {r : Option Nat} {st : List Value} : zwt (va_rf r :: st) = 1 + zwt st := by rw [zwt_c, zcat_rf]
theorem zcat_i1 {v : Int32} {st : List Value} : zwt (.int v :: st) = 1 + zwt st := zwt_c
theorem zj_ra {e : ZR} {i : ZI} (h1 : zj_R own cc nL d ini ts k a b e) (h2 : zj_I own cc nL d ini ts (k + 1) b c i) (hd : decode cc c = .ok (.aaload, 1)) : zj_R own cc nL d ini ts k a (c + 1) (zr_a e i) := by
  have key : ∀ L h v h', zr_a e i L h = some (v, h') → ∃ o h1 j n, e L h = some (some o, h1) ∧ i L h1 = some (j, h') ∧ h'.2.2[o]? = some (103, n) ∧ zinb j n = true ∧ v = h'.2.1 o j.toNatClampNeg := by
    intro L h v h' ee
    obtain ⟨⟨r, h2⟩, e1, e2⟩ := Option.bind_eq_some_iff.mp ee
    obtain ⟨⟨j, h3⟩, e3, e4⟩ := Option.bind_eq_some_iff.mp e2
    cases r with
    | none => cases e4
    | some o =>
      dsimp only at e3 e4
      cases hq : h3.2.2[o]? with
      | none => rw [hq] at e4; cases e4
      | some q =>
        rw [hq] at e4
        dsimp only at e4
        by_cases hh : q.1 = 103 ∧ zinb j q.2 = true
        · rw [if_pos hh] at e4
          cases e4
          obtain ⟨q1, q2⟩ := q
          obtain ⟨rfl, hb⟩ := hh
          exact ⟨o, h2, j, q2, e1, e3, hq, hb, rfl⟩
        · rw [if_neg hh] at e4
          cases e4
  refine ⟨fun L h v h' ee => ?_, fun Z hX L st h v h' ee hc hk kk => ?_⟩
  · obtain ⟨o, h3, j, n, e1, e2, -⟩ := key L h v h' ee
    exact zle_trans (h1.1 L h _ _ e1) (h2.1 L _ _ _ e2)
  · obtain ⟨o, h3, j, n, e1, e2, e3, e4, rfl⟩ := key L h v h' ee
    refine h1.2 Z hX L st h _ h3 e1 (zcap_le (h2.1 L _ _ _ e2) hc) hk ?_
    refine h2.2 Z hX L _ h3 _ h' e2 hc (by rw [zcat_r1]; omega) ?_
    exact zw_aald hX hd e3 e4 kk
theorem zj_len {e : ZR} (h1 : zj_R own cc nL d ini ts k a b e) (hd : decode cc b = .ok (.arraylength, 1)) : zj_I own cc nL d ini ts k a (b + 1) (ze_len e) := by
  have key : ∀ L h v h', ze_len e L h = some (v, h') → ∃ o q, e L h = some (some o, h') ∧ h'.2.2[o]? = some q ∧ (100 ≤ q.1 ∧ q.1 < 104) ∧ v = Int32.ofNat q.2 := by
    intro L h v h' ee
    obtain ⟨⟨r, h2⟩, e1, e2⟩ := Option.bind_eq_some_iff.mp ee
    cases r with
    | none => cases e2
    | some o =>
      dsimp only at e2
      cases hq : h2.2.2[o]? with
      | none => rw [hq] at e2; cases e2
      | some q =>
        rw [hq] at e2
        dsimp only at e2
        by_cases hh : 100 ≤ q.1 ∧ q.1 < 104
        · rw [if_pos hh] at e2
          cases e2
          exact ⟨o, q, e1, hq, hh, rfl⟩
        · rw [if_neg hh] at e2
          cases e2
  refine ⟨fun L h v h' ee => ?_, fun Z hX L st h v h' ee hc hk kk => ?_⟩
  · obtain ⟨o, q, e1, -⟩ := key L h v h' ee
    exact h1.1 L h _ h' e1
  · obtain ⟨o, q, e1, e2, e3, rfl⟩ := key L h v h' ee
    exact h1.2 Z hX L st h _ h' e1 hc hk (zw_alen hX hd e2 e3 kk)
/-! operations -/
theorem zj_b {f : Int32 → Int32 → Int32} {n : Nat} {e1 e2 : ZI} (h1 : zj_I own cc nL d ini ts k a b e1) (h2 : zj_I own cc nL d ini ts (k + 1) b c e2) (ho : zop own cc nL d ini c n f) (hk8 : k ≤ 8) : zj_I own cc nL d ini ts k a (c + n) (ze_b f e1 e2) := by
  have key : ∀ L h v h', ze_b f e1 e2 L h = some (v, h') → ∃ x h1 y, e1 L h = some (x, h1) ∧ e2 L h1 = some (y, h') ∧ v = f x y := by
    intro L h v h' ee
    obtain ⟨⟨x, h2⟩, e1, e2⟩ := Option.bind_eq_some_iff.mp ee
    obtain ⟨⟨y, h3⟩, e3, e4⟩ := Option.bind_eq_some_iff.mp e2
    cases e4
    exact ⟨x, h2, y, e1, e3, rfl⟩
  refine ⟨fun L h v h' ee => ?_, fun Z hX L st h v h' ee hc hk kk => ?_⟩
  · obtain ⟨x, h3, y, q1, q2, -⟩ := key L h v h' ee
    exact zle_trans (h1.1 L h _ _ q1) (h2.1 L _ _ _ q2)
  · obtain ⟨x, h3, y, q1, q2, rfl⟩ := key L h v h' ee
    refine h1.2 Z hX L st h _ h3 q1 (zcap_le (h2.1 L _ _ _ q2) hc) hk ?_
    refine h2.2 Z hX L _ h3 _ h' q2 hc (by rw [zcat_i1]; omega) ?_
    exact ho Z hX L ts st h' x y (by omega) kk
theorem zj_d {f : Int32 → Int32 → Int32} {n : Nat} {e1 e2 : ZI} (h1 : zj_I own cc nL d ini ts k a b e1) (h2 : zj_I own cc nL d ini ts (k + 1) b c e2) (ho : zopd own cc nL d ini c n f) : zj_I own cc nL d ini ts k a (c + n) (ze_d f e1 e2) := by
  have key : ∀ L h v h', ze_d f e1 e2 L h = some (v, h') → ∃ x h1 y, e1 L h = some (x, h1) ∧ e2 L h1 = some (y, h') ∧ ¬ y = 0 ∧ v = f x y := by
    intro L h v h' ee
    obtain ⟨⟨x, h2⟩, e1, e2⟩ := Option.bind_eq_some_iff.mp ee
    obtain ⟨⟨y, h3⟩, e3, e4⟩ := Option.bind_eq_some_iff.mp e2
    dsimp only at e4
    by_cases hy : y = 0
    · rw [if_pos hy] at e4
      cases e4
    · rw [if_neg hy] at e4
      cases e4
      exact ⟨x, h2, y, e1, e3, hy, rfl⟩
  refine ⟨fun L h v h' ee => ?_, fun Z hX L st h v h' ee hc hk kk => ?_⟩
  · obtain ⟨x, h3, y, q1, q2, -⟩ := key L h v h' ee
    exact zle_trans (h1.1 L h _ _ q1) (h2.1 L _ _ _ q2)
  · obtain ⟨x, h3, y, q1, q2, q3, rfl⟩ := key L h v h' ee
    refine h1.2 Z hX L st h _ h3 q1 (zcap_le (h2.1 L _ _ _ q2) hc) hk ?_
    refine h2.2 Z hX L _ h3 _ h' q2 hc (by rw [zcat_i1]; omega) ?_
    exact ho Z hX L ts st h' x y q3 kk
theorem zj_u {f : Int32 → Int32} {n : Nat} {e : ZI} (h1 : zj_I own cc nL d ini ts k a b e) (ho : zop1 own cc nL d ini b n f) : zj_I own cc nL d ini ts k a (b + n) (ze_u f e) := by
  have key : ∀ L h v h', ze_u f e L h = some (v, h') → ∃ x, e L h = some (x, h') ∧ v = f x := by
    intro L h v h' ee
    obtain ⟨⟨x, h2⟩, e1, e2⟩ := Option.bind_eq_some_iff.mp ee
    cases e2
    exact ⟨x, e1, rfl⟩
  refine ⟨fun L h v h' ee => ?_, fun Z hX L st h v h' ee hc hk kk => ?_⟩
  · obtain ⟨x, q1, -⟩ := key L h v h' ee
    exact h1.1 L h _ _ q1
  · obtain ⟨x, q1, rfl⟩ := key L h v h' ee
    exact h1.2 Z hX L st h _ h' q1 hc hk (ho Z hX L ts st h' x kk)
/-! c ? e1 : e2 -/
theorem zj_t {cd : ZC} {e1 e2 : ZI} {p1 T F x : Nat} {off : Int} (h0 : zj_C own cc nL d ini ts k a T F cd) (h1 : zj_I own cc nL d ini ts k T p1 e1) (hg : decode cc p1 = .ok (.goto off, 3)) (ht : (p1 : Int) + off = (x : Int)) (h2 : zj_I own cc nL d ini ts k F x e2) : zj_I own cc nL d ini ts k a x (ze_t cd e1 e2) := by
  refine ⟨fun L h v h' ee => ?_, fun Z hX L st h v h' ee hc hk kk => ?_⟩
  · obtain ⟨⟨bv, h3⟩, q1, q2⟩ := Option.bind_eq_some_iff.mp ee
    cases bv with
    | true => exact zle_trans (h0.1 L h _ _ q1) (h1.1 L _ _ _ q2)
    | false => exact zle_trans (h0.1 L h _ _ q1) (h2.1 L _ _ _ q2)
  · obtain ⟨⟨bv, h3⟩, q1, q2⟩ := Option.bind_eq_some_iff.mp ee
    cases bv with
    | true => exact h0.2 Z hX L st h _ h3 q1 (zcap_le (h1.1 L _ _ _ q2) hc) hk (fun _ => h1.2 Z hX L st h3 _ h' q2 hc hk (zw_goto hX ht hg kk)) (fun q => by cases q)
    | false => exact h0.2 Z hX L st h _ h3 q1 (zcap_le (h2.1 L _ _ _ q2) hc) hk (fun q => by cases q) (fun _ => h2.2 Z hX L st h3 _ h' q2 hc hk kk)
theorem zj_rt {cd : ZC} {e1 e2 : ZR} {p1 T F x : Nat} {off : Int} (h0 : zj_C own cc nL d ini ts k a T F cd) (h1 : zj_R own cc nL d ini ts k T p1 e1) (hg : decode cc p1 = .ok (.goto off, 3)) (ht : (p1 : Int) + off = (x : Int)) (h2 : zj_R own cc nL d ini ts k F x e2) : zj_R own cc nL d ini ts k a x (zr_t cd e1 e2) := by
  refine ⟨fun L h v h' ee => ?_, fun Z hX L st h v h' ee hc hk kk => ?_⟩
  · obtain ⟨⟨bv, h3⟩, q1, q2⟩ := Option.bind_eq_some_iff.mp ee
    cases bv with
    | true => exact zle_trans (h0.1 L h _ _ q1) (h1.1 L _ _ _ q2)
    | false => exact zle_trans (h0.1 L h _ _ q1) (h2.1 L _ _ _ q2)
  · obtain ⟨⟨bv, h3⟩, q1, q2⟩ := Option.bind_eq_some_iff.mp ee
    cases bv with
    | true => exact h0.2 Z hX L st h _ h3 q1 (zcap_le (h1.1 L _ _ _ q2) hc) hk (fun _ => h1.2 Z hX L st h3 _ h' q2 hc hk (zw_goto hX ht hg kk)) (fun q => by cases q)
    | false => exact h0.2 Z hX L st h _ h3 q1 (zcap_le (h2.1 L _ _ _ q2) hc) hk (fun q => by cases q) (fun _ => h2.2 Z hX L st h3 _ h' q2 hc hk kk)
/-! conditions -/
theorem zj_cmp {P : Int32 → Int32 → Bool} {e1 e2 : ZI} {T F : Nat} (h1 : zj_I own cc nL d ini ts k a b e1) (h2 : zj_I own cc nL d ini ts (k + 1) b c e2) (ho : zjc own cc nL d ini c T F P) : zj_C own cc nL d ini ts k a T F (zc_cmp P e1 e2) := by
  have key : ∀ L h v h', zc_cmp P e1 e2 L h = some (v, h') → ∃ x h1 y, e1 L h = some (x, h1) ∧ e2 L h1 = some (y, h') ∧ v = P x y := by
    intro L h v h' ee
    obtain ⟨⟨x, h2⟩, e1, e2⟩ := Option.bind_eq_some_iff.mp ee
    obtain ⟨⟨y, h3⟩, e3, e4⟩ := Option.bind_eq_some_iff.mp e2
    cases e4
    exact ⟨x, h2, y, e1, e3, rfl⟩
  refine ⟨fun L h v h' ee => ?_, fun Z hX L st h v h' ee hc hk kt kf => ?_⟩
  · obtain ⟨x, h3, y, q1, q2, -⟩ := key L h v h' ee
    exact zle_trans (h1.1 L h _ _ q1) (h2.1 L _ _ _ q2)
  · obtain ⟨x, h3, y, q1, q2, rfl⟩ := key L h v h' ee
    refine h1.2 Z hX L st h _ h3 q1 (zcap_le (h2.1 L _ _ _ q2) hc) hk ?_
    refine h2.2 Z hX L _ h3 _ h' q2 hc (by rw [zcat_i1]; omega) ?_
    exact ho Z hX L ts st h' x y kt kf
theorem zj_cmp0 {P : Int32 → Int32 → Bool} {e1 : ZI} {T F : Nat} (h1 : zj_I own cc nL d ini ts k a b e1) (ho : zj0 own cc nL d ini b T F P) : zj_C own cc nL d ini ts k a T F (zc_cmp P e1 (ze_c 0)) := by
  have key : ∀ L h v h', zc_cmp P e1 (ze_c 0) L h = some (v, h') → ∃ x, e1 L h = some (x, h') ∧ v = P x 0 := by
    intro L h v h' ee
    obtain ⟨⟨x, h2⟩, e1, e2⟩ := Option.bind_eq_some_iff.mp ee
    obtain ⟨⟨y, h3⟩, e3, e4⟩ := Option.bind_eq_some_iff.mp e2
    cases e3
    cases e4
    exact ⟨x, e1, rfl⟩
  refine ⟨fun L h v h' ee => ?_, fun Z hX L st h v h' ee hc hk kt kf => ?_⟩
  · obtain ⟨x, q1, -⟩ := key L h v h' ee
    exact h1.1 L h _ _ q1
  · obtain ⟨x, q1, rfl⟩ := key L h v h' ee
    exact h1.2 Z hX L st h _ h' q1 hc hk (ho Z hX L ts st h' x kt kf)
theorem zw_ifnull {Z : ZK} {L : Fr} {st : List Value} {h : Hp} {r : Option Nat} (hX : zx own cc nL d ini Z) (ht : (pc : Int) + off = (T : Int)) (hd : decode cc pc = .ok (.ifnull off, 3)) (kt : r.isNone = true → zw Z nL T L ts st h) (kf : r.isNone = false → zw Z nL (pc + 3) L ts st h) : zw Z nL pc L ts (va_rf r :: st) h := by
  obtain ⟨p, l, e, R, s, m, args, below, meth, co, Q, A, G, cC, cS⟩ := Z
  intro ad H locs ls cells slots hr hlv hok
  cases r with
  | none => exact lv_ifnullN hX.1 hX.2.1 hd ht (kt rfl ad H locs ls cells slots hr hlv (zok_tl hok))
  | some o => exact lv_ifnull hX.1 hX.2.1 hd (kf rfl ad H locs ls cells slots hr hlv (zok_tl hok))
theorem zw_ifnonnull {Z : ZK} {L : Fr} {st : List Value} {h : Hp} {r : Option Nat} (hX : zx own cc nL d ini Z) (ht : (pc : Int) + off = (F : Int)) (hd : decode cc pc = .ok (.ifnonnull off, 3)) (kt : r.isNone = true → zw Z nL (pc + 3) L ts st h) (kf : r.isNone = false → zw Z nL F L ts st h) : zw Z nL pc L ts (va_rf r :: st) h := by
  obtain ⟨p, l, e, R, s, m, args, below, meth, co, Q, A, G, cC, cS⟩ := Z
  intro ad H locs ls cells slots hr hlv hok
  cases r with
  | none => exact lv_ifnonnullN hX.1 hX.2.1 hd (kt rfl ad H locs ls cells slots hr hlv (zok_tl hok))
  | some o => exact lv_ifnonnull hX.1 hX.2.1 hd ht (kf rfl ad H locs ls cells slots hr hlv (zok_tl hok))
theorem zc_null_key {e : ZR} {L : Fr} {h h' : Hp} {v : Bool} (ee : zc_null e L h = some (v, h')) : ∃ r, e L h = some (r, h') ∧ v = r.isNone := by
  obtain ⟨⟨x, h2⟩, e1, e2⟩ := Option.bind_eq_some_iff.mp ee
  cases e2
  exact ⟨x, e1, rfl⟩
theorem zj_isnull {e : ZR} (h1 : zj_R own cc nL d ini ts k a pc e) (hd : decode cc pc = .ok (.ifnull off, 3)) (ht : (pc : Int) + off = (T : Int)) : zj_C own cc nL d ini ts k a T (pc + 3) (zc_null e) := by
  refine ⟨fun L h v h' ee => ?_, fun Z hX L st h v h' ee hc hk kt kf => ?_⟩
  · obtain ⟨r, q1, -⟩ := zc_null_key ee
    exact h1.1 L h _ _ q1
  · obtain ⟨r, q1, rfl⟩ := zc_null_key ee
    exact h1.2 Z hX L st h _ h' q1 hc hk (zw_ifnull hX ht hd kt kf)
theorem zj_nonnull {e : ZR} (h1 : zj_R own cc nL d ini ts k a pc e) (hd : decode cc pc = .ok (.ifnonnull off, 3)) (ht : (pc : Int) + off = (F : Int)) : zj_C own cc nL d ini ts k a (pc + 3) F (zc_null e) := by
  refine ⟨fun L h v h' ee => ?_, fun Z hX L st h v h' ee hc hk kt kf => ?_⟩
  · obtain ⟨r, q1, -⟩ := zc_null_key ee
    exact h1.1 L h _ _ q1
  · obtain ⟨r, q1, rfl⟩ := zc_null_key ee
    exact h1.2 Z hX L st h _ h' q1 hc hk (zw_ifnonnull hX ht hd kt kf)
theorem zj_and {c1 c2 : ZC} {M T F : Nat} (h1 : zj_C own cc nL d ini ts k a M F c1) (h2 : zj_C own cc nL d ini ts k M T F c2) : zj_C own cc nL d ini ts k a T F (zc_and c1 c2) := by
  refine ⟨fun L h v h' ee => ?_, fun Z hX L st h v h' ee hc hk kt kf => ?_⟩
  · obtain ⟨⟨bv, h3⟩, q1, q2⟩ := Option.bind_eq_some_iff.mp ee
    cases bv with
    | true => exact zle_trans (h1.1 L h _ _ q1) (h2.1 L _ _ _ q2)
    | false => cases q2; exact h1.1 L h _ _ q1
  · obtain ⟨⟨bv, h3⟩, q1, q2⟩ := Option.bind_eq_some_iff.mp ee
    cases bv with
    | true => exact h1.2 Z hX L st h _ h3 q1 (zcap_le (h2.1 L _ _ _ q2) hc) hk (fun _ => h2.2 Z hX L st h3 _ h' q2 hc hk kt kf) (fun q => by cases q)
    | false => cases q2; exact h1.2 Z hX L st h _ h3 q1 hc hk (fun q => by cases q) (fun _ => kf rfl)
theorem zj_or {c1 c2 : ZC} {M T F : Nat} (h1 : zj_C own cc nL d ini ts k a T M c1) (h2 : zj_C own cc nL d ini ts k M T F c2) : zj_C own cc nL d ini ts k a T F (zc_or c1 c2) := by
  refine ⟨fun L h v h' ee => ?_, fun Z hX L st h v h' ee hc hk kt kf => ?_⟩
  · obtain ⟨⟨bv, h3⟩, q1, q2⟩ := Option.bind_eq_some_iff.mp ee
    cases bv with
    | false => exact zle_trans (h1.1 L h _ _ q1) (h2.1 L _ _ _ q2)
    | true => cases q2; exact h1.1 L h _ _ q1
  · obtain ⟨⟨bv, h3⟩, q1, q2⟩ := Option.bind_eq_some_iff.mp ee
    cases bv with
    | false => exact h1.2 Z hX L st h _ h3 q1 (zcap_le (h2.1 L _ _ _ q2) hc) hk (fun q => by cases q) (fun _ => h2.2 Z hX L st h3 _ h' q2 hc hk kt kf)
    | true => cases q2; exact h1.2 Z hX L st h _ h3 q1 hc hk (fun _ => kt rfl) (fun q => by cases q)
theorem zj_not {c1 : ZC} {T F : Nat} (h1 : zj_C own cc nL d ini ts k a F T c1) : zj_C own cc nL d ini ts k a T F (zc_not c1) := by
  refine ⟨fun L h v h' ee => ?_, fun Z hX L st h v h' ee hc hk kt kf => ?_⟩
  · obtain ⟨⟨bv, h3⟩, q1, q2⟩ := Option.bind_eq_some_iff.mp ee
    cases q2
    exact h1.1 L h _ _ q1
  · obtain ⟨⟨bv, h3⟩, q1, q2⟩ := Option.bind_eq_some_iff.mp ee
    cases q2
    exact h1.2 Z hX L st h _ h3 q1 hc hk (fun q => kf (by rw [q]; rfl)) (fun q => kt (by rw [q]; rfl))
/-- a jump's target that is a goto -/
theorem zj_gT {c1 : ZC} {T T2 F : Nat} (h1 : zj_C own cc nL d ini ts k a T F c1) (hd : decode cc T = .ok (.goto off, 3)) (ht : (T : Int) + off = (T2 : Int)) : zj_C own cc nL d ini ts k a T2 F c1 :=
  ⟨h1.1, fun Z hX L st h v h' ee hc hk kt kf => h1.2 Z hX L st h v h' ee hc hk (fun q => zw_goto hX ht hd (kt q)) kf⟩
theorem zj_gF {c1 : ZC} {T F F2 : Nat} (h1 : zj_C own cc nL d ini ts k a T F c1) (hd : decode cc F = .ok (.goto off, 3)) (ht : (F : Int) + off = (F2 : Int)) : zj_C own cc nL d ini ts k a T F2 c1 :=
  ⟨h1.1, fun Z hX L st h v h' ee hc hk kt kf => h1.2 Z hX L st h v h' ee hc hk kt (fun q => zw_goto hX ht hd (kf q))⟩
/-! arguments -/
theorem zj_a0 : zj_A own cc nL d ini ts k 0 a a za_0 :=
  ⟨fun L h v h' e => by cases e; exact ⟨zle_rfl, rfl, rfl⟩, fun Z hX L st h v h' e _ _ kk => by cases e; exact kk⟩
theorem zj_ai {as : ZA} {e : ZI} {n : Nat} (h1 : zj_A own cc nL d ini ts k n a b as) (h2 : zj_I own cc nL d ini ts (k + n) b c e) : zj_A own cc nL d ini ts k (n + 1) a c (za_i as e) := by
  refine ⟨fun L h v h' ee => ?_, fun Z hX L st h v h' ee hc hk kk => ?_⟩
  · obtain ⟨⟨vs, h3⟩, q1, q2⟩ := Option.bind_eq_some_iff.mp ee
    obtain ⟨⟨w, h4⟩, q3, q4⟩ := Option.bind_eq_some_iff.mp q2
    cases q4
    obtain ⟨a1, a2, a3⟩ := h1.1 L h _ _ q1
    refine ⟨zle_trans a1 (h2.1 L _ _ _ q3), by rw [List.length_append, a2]; rfl, by rw [zwt_a, a3]; rfl⟩
  · obtain ⟨⟨vs, h3⟩, q1, q2⟩ := Option.bind_eq_some_iff.mp ee
    obtain ⟨⟨w, h4⟩, q3, q4⟩ := Option.bind_eq_some_iff.mp q2
    cases q4
    obtain ⟨a1, a2, a3⟩ := h1.1 L h _ _ q1
    refine h1.2 Z hX L st h _ h3 q1 (zcap_le (h2.1 L _ _ _ q3) hc) hk ?_
    refine h2.2 Z hX L _ h3 _ _ q3 hc (by rw [zwt_a, zwt_r]; omega) ?_
    rw [List.reverse_append] at kk
    exact kk
theorem zj_ar {as : ZA} {e : ZR} {n : Nat} (h1 : zj_A own cc nL d ini ts k n a b as) (h2 : zj_R own cc nL d ini ts (k + n) b c e) : zj_A own cc nL d ini ts k (n + 1) a c (za_r as e) := by
  refine ⟨fun L h v h' ee => ?_, fun Z hX L st h v h' ee hc hk kk => ?_⟩
  · obtain ⟨⟨vs, h3⟩, q1, q2⟩ := Option.bind_eq_some_iff.mp ee
    obtain ⟨⟨w, h4⟩, q3, q4⟩ := Option.bind_eq_some_iff.mp q2
    cases q4
    obtain ⟨a1, a2, a3⟩ := h1.1 L h _ _ q1
    refine ⟨zle_trans a1 (h2.1 L _ _ _ q3), by rw [List.length_append, a2]; rfl, by rw [zwt_a, a3, zcat_r1]; rfl⟩
  · obtain ⟨⟨vs, h3⟩, q1, q2⟩ := Option.bind_eq_some_iff.mp ee
    obtain ⟨⟨w, h4⟩, q3, q4⟩ := Option.bind_eq_some_iff.mp q2
    cases q4
    obtain ⟨a1, a2, a3⟩ := h1.1 L h _ _ q1
    refine h1.2 Z hX L st h _ h3 q1 (zcap_le (h2.1 L _ _ _ q3) hc) hk ?_
    refine h2.2 Z hX L _ h3 _ _ q3 hc (by rw [zwt_a, zwt_r]; omega) ?_
    rw [List.reverse_append] at kk
    exact kk
end ZJ
