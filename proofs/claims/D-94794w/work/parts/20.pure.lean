/-! THE PURE SIDE: a heap of numbered objects, frames, and the meaning of Java's expressions and statements as functions. No machine here. -/
/-- a heap: the ints (object, slot), the references (object, slot), the kinds (class or array kind, size) of the objects 0, 1, 2 .. -/
abbrev Hp : Type := (Nat → Nat → Int32) × (Nat → Nat → Option Nat) × List (Nat × Nat)
/-- a frame: locals that are ints, locals that are references -/
abbrev Fr : Type := (Nat → Int32) × (Nat → Option Nat)
def zu (f : Nat → Nat → Int32) (i k : Nat) (v : Int32) : Nat → Nat → Int32 := fun a => if a = i then upd (f i) k v else f a
def zur (f : Nat → Nat → Option Nat) (i k : Nat) (v : Option Nat) : Nat → Nat → Option Nat := fun a => if a = i then va_up (f i) k v else f a
/-- a whole row of ints set -/
def zrow (f : Nat → Nat → Int32) (i : Nat) (r : Nat → Int32) : Nat → Nat → Int32 := fun a => if a = i then r else f a
def zsum (l : List (Nat × Nat)) : Nat := (l.map (fun q => q.2)).sum
/-- the heap h2 has all of h1's objects, in their places -/
def zle (h1 h2 : Hp) : Prop := ∃ E, h2.2.2 = h1.2.2 ++ E
theorem zle_rfl {h : Hp} : zle h h := ⟨[], (List.append_nil _).symm⟩
theorem zle_trans {a b c : Hp} (h1 : zle a b) (h2 : zle b c) : zle a c := by
  obtain ⟨E, e1⟩ := h1
  obtain ⟨F, e2⟩ := h2
  exact ⟨E ++ F, by rw [e2, e1, List.append_assoc]⟩
theorem zle_eq {a b : Hp} (h : b.2.2 = a.2.2) : zle a b := ⟨[], by rw [h, List.append_nil]⟩
theorem zsum_app (a b : List (Nat × Nat)) : zsum (a ++ b) = zsum a + zsum b := by
  unfold zsum
  rw [List.map_append, List.sum_append]
theorem zle_len {a b : Hp} (h : zle a b) : a.2.2.length ≤ b.2.2.length := by
  obtain ⟨E, e⟩ := h
  rw [e, List.length_append]
  omega
theorem zle_sum {a b : Hp} (h : zle a b) : zsum a.2.2 ≤ zsum b.2.2 := by
  obtain ⟨E, e⟩ := h
  rw [e, zsum_app]
  omega
/-- an index that is in range -/
def zinb (i : Int32) (n : Nat) : Bool := decide (¬ (i < 0)) && decide (i.toNatClampNeg < n)
theorem zinb_in {i : Int32} {n : Nat} (h : zinb i n = true) : vp_in i n := by
  unfold zinb at h
  rw [Bool.and_eq_true, decide_eq_true_eq, decide_eq_true_eq] at h
  intro q
  rcases q with q | q
  · exact h.1 q
  · omega
abbrev ZI : Type := Fr → Hp → Option (Int32 × Hp)
abbrev ZR : Type := Fr → Hp → Option (Option Nat × Hp)
abbrev ZC : Type := Fr → Hp → Option (Bool × Hp)
abbrev ZA : Type := Fr → Hp → Option (List Value × Hp)
/-- a statement: how it ends (0 goes on, 1 break, 2 continue, 3 return, 4 throw), the frame (an answer in local 999), the heap -/
abbrev ZS : Type := Fr → Hp → Option (Nat × Fr × Hp)
abbrev Mth : Type := List Value → Hp → Option (Value × Hp)
/-! ints -/
def ze_c (n : Int32) : ZI := fun _ h => some (n, h)
def ze_l (i : Nat) : ZI := fun L h => some (L.1 i, h)
/-- a field of kind int: class c with n fields, field k -/
def ze_g (c n k : Nat) (e : ZR) : ZI := fun L h => (e L h).bind fun r => match r.1 with
  | none => none
  | some a => if r.2.2.2[a]? = some (c, n) then some (r.2.1 a k, r.2) else none
/-- an element of an array of ints (kind 100), bytes (101), booleans (102) -/
def ze_a (kd : Nat) (e : ZR) (i : ZI) : ZI := fun L h => (e L h).bind fun r => (i L r.2).bind fun j => match r.1 with
  | none => none
  | some a => match j.2.2.2[a]? with
    | none => none
    | some q => if q.1 = kd ∧ zinb j.1 q.2 = true then some (j.2.1 a j.1.toNatClampNeg, j.2) else none
def ze_len (e : ZR) : ZI := fun L h => (e L h).bind fun r => match r.1 with
  | none => none
  | some a => match r.2.2.2[a]? with
    | none => none
    | some q => if 100 ≤ q.1 ∧ q.1 < 104 then some (Int32.ofNat q.2, r.2) else none
def ze_b (f : Int32 → Int32 → Int32) (e1 e2 : ZI) : ZI := fun L h => (e1 L h).bind fun r1 => (e2 L r1.2).bind fun r2 => some (f r1.1 r2.1, r2.2)
/-- an operation that asks of its second operand that it is not 0 -/
def ze_d (f : Int32 → Int32 → Int32) (e1 e2 : ZI) : ZI := fun L h => (e1 L h).bind fun r1 => (e2 L r1.2).bind fun r2 => if r2.1 = 0 then none else some (f r1.1 r2.1, r2.2)
def ze_u (f : Int32 → Int32) (e : ZI) : ZI := fun L h => (e L h).bind fun r => some (f r.1, r.2)
def ze_t (c : ZC) (e1 e2 : ZI) : ZI := fun L h => (c L h).bind fun b => if b.1 = true then e1 L b.2 else e2 L b.2
/-- an int field, read and then made one greater (x.f++ as a value) -/
def ze_pp (c n k : Nat) (e : ZR) : ZI := fun L h => (e L h).bind fun r => match r.1 with
  | none => none
  | some a => if r.2.2.2[a]? = some (c, n) then some (r.2.1 a k, (zu r.2.1 a k (r.2.1 a k + 1), r.2.2)) else none
def ze_call (F : Mth) (as : ZA) : ZI := fun L h => (as L h).bind fun r => (F r.1 r.2).bind fun q => match q.1 with
  | .int v => some (v, q.2)
  | _ => none
/-! references -/
def zr_n : ZR := fun _ h => some (none, h)
def zr_l (i : Nat) : ZR := fun L h => some (L.2 i, h)
def zr_g (c n k : Nat) (e : ZR) : ZR := fun L h => (e L h).bind fun r => match r.1 with
  | none => none
  | some a => if r.2.2.2[a]? = some (c, n) then some (r.2.2.1 a k, r.2) else none
def zr_a (e : ZR) (i : ZI) : ZR := fun L h => (e L h).bind fun r => (i L r.2).bind fun j => match r.1 with
  | none => none
  | some a => match j.2.2.2[a]? with
    | none => none
    | some q => if q.1 = 103 ∧ zinb j.1 q.2 = true then some (j.2.2.1 a j.1.toNatClampNeg, j.2) else none
def zr_t (c : ZC) (e1 e2 : ZR) : ZR := fun L h => (c L h).bind fun b => if b.1 = true then e1 L b.2 else e2 L b.2
def zr_str (k : Nat) : ZR := fun _ h => some (some (1000000 + k), h)
def zr_call (F : Mth) (as : ZA) : ZR := fun L h => (as L h).bind fun r => (F r.1 r.2).bind fun q => match q.1 with
  | .null => some (none, q.2)
  | .ref a => some (some a, q.2)
  | _ => none
/-- a new object with n fields of class c, its fields as new -/
def zh_new (c n : Nat) (h : Hp) : Hp := (zrow h.1 h.2.2.length (fun _ => 0), (fun a => if a = h.2.2.length then (fun _ => none) else h.2.1 a), h.2.2 ++ [(c, n)])
/-- new C(args), by its constructor F -/
def zr_new (c n : Nat) (F : Mth) (as : ZA) : ZR := fun L h => (as L (zh_new c n h)).bind fun r => (F (.ref h.2.2.length :: r.1) r.2).bind fun q => some (some h.2.2.length, q.2)
/-- new int[n] and its like -/
def zr_newa (kd n : Nat) : ZR := fun _ h => some (some h.2.2.length, zh_new kd n h)
/-! conditions -/
def zc_cmp (P : Int32 → Int32 → Bool) (e1 e2 : ZI) : ZC := fun L h => (e1 L h).bind fun r1 => (e2 L r1.2).bind fun r2 => some (P r1.1 r2.1, r2.2)
def zc_0 (P : Int32 → Bool) (e : ZI) : ZC := fun L h => (e L h).bind fun r => some (P r.1, r.2)
def zc_null (e : ZR) : ZC := fun L h => (e L h).bind fun r => some (r.1.isNone, r.2)
def zc_and (c1 c2 : ZC) : ZC := fun L h => (c1 L h).bind fun b => if b.1 = true then c2 L b.2 else some (false, b.2)
def zc_or (c1 c2 : ZC) : ZC := fun L h => (c1 L h).bind fun b => if b.1 = true then some (true, b.2) else c2 L b.2
def zc_not (c : ZC) : ZC := fun L h => (c L h).bind fun b => some (!b.1, b.2)
/-! arguments -/
def za_0 : ZA := fun _ h => some ([], h)
/-- one more argument, behind those that stand -/
def za_i (as : ZA) (e : ZI) : ZA := fun L h => (as L h).bind fun r => (e L r.2).bind fun v => some (r.1 ++ [.int v.1], v.2)
def za_r (as : ZA) (e : ZR) : ZA := fun L h => (as L h).bind fun r => (e L r.2).bind fun v => some (r.1 ++ [va_rf v.1], v.2)
/-! statements -/
def zs_skip : ZS := fun L h => some (0, L, h)
def zs_i (i : Nat) (e : ZI) : ZS := fun L h => (e L h).bind fun r => some (0, (upd L.1 i r.1, L.2), r.2)
def zs_r (i : Nat) (e : ZR) : ZS := fun L h => (e L h).bind fun r => some (0, (L.1, va_up L.2 i r.1), r.2)
def zs_inc (i : Nat) (n : Int32) : ZS := fun L h => some (0, (upd L.1 i (L.1 i + n), L.2), h)
/-- x.f = e, an int (fit: what the field can hold) -/
def zs_pi (c n k : Nat) (fit : Int32 → Bool) (x : ZR) (e : ZI) : ZS := fun L h => (x L h).bind fun r => (e L r.2).bind fun v => match r.1 with
  | none => none
  | some a => if v.2.2.2[a]? = some (c, n) ∧ fit v.1 = true then some (0, L, (zu v.2.1 a k v.1, v.2.2)) else none
/-- x.f = e, a reference -/
def zs_pr (c n k : Nat) (x : ZR) (e : ZR) : ZS := fun L h => (x L h).bind fun r => (e L r.2).bind fun v => match r.1 with
  | none => none
  | some a => if v.2.2.2[a]? = some (c, n) then some (0, L, (v.2.1, zur v.2.2.1 a k v.1, v.2.2.2)) else none
/-- x.f = x.f op e -/
def zs_po (c n k : Nat) (f : Int32 → Int32 → Int32) (x : ZR) (e : ZI) : ZS := fun L h => (x L h).bind fun r => match r.1 with
  | none => none
  | some a => if r.2.2.2[a]? = some (c, n) then (e L r.2).bind fun v => if v.2.2.2[a]? = some (c, n) then some (0, L, (zu v.2.1 a k (f (r.2.1 a k) v.1), v.2.2)) else none else none
/-- what an array of that kind keeps of an int -/
def znar (kd : Nat) (v : Int32) : Int32 := if kd = 101 then vp_nar .byte v else if kd = 102 then vp_nar .boolean v else v
/-- x[i] = e, ints (kinds 100, 101, 102) -/
def zs_ai (kd : Nat) (x : ZR) (i e : ZI) : ZS := fun L h => (x L h).bind fun r => (i L r.2).bind fun j => (e L j.2).bind fun v => match r.1 with
  | none => none
  | some a => match v.2.2.2[a]? with
    | none => none
    | some q => if q.1 = kd ∧ zinb j.1 q.2 = true then some (0, L, (zu v.2.1 a j.1.toNatClampNeg (znar kd v.1), v.2.2)) else none
/-- x[i] = x[i] op e, ints -/
def zs_ao (f : Int32 → Int32 → Int32) (x : ZR) (i e : ZI) : ZS := fun L h => (x L h).bind fun r => (i L r.2).bind fun j => match r.1 with
  | none => none
  | some a => match j.2.2.2[a]? with
    | none => none
    | some q => if q.1 = 100 ∧ zinb j.1 q.2 = true then (e L j.2).bind fun v => if v.2.2.2[a]? = some q then some (0, L, (zu v.2.1 a j.1.toNatClampNeg (f (j.2.1 a j.1.toNatClampNeg) v.1), v.2.2)) else none else none
/-- x[i] = e, references to objects of class c with n fields -/
def zs_ar (c n : Nat) (x : ZR) (i : ZI) (e : ZR) : ZS := fun L h => (x L h).bind fun r => (i L r.2).bind fun j => (e L j.2).bind fun v => match r.1 with
  | none => none
  | some a => match v.2.2.2[a]? with
    | none => none
    | some q => if q.1 = 103 ∧ zinb j.1 q.2 = true then (match v.1 with
      | none => some (0, L, (v.2.1, zur v.2.2.1 a j.1.toNatClampNeg none, v.2.2.2))
      | some b => if v.2.2.2[b]? = some (c, n) then some (0, L, (v.2.1, zur v.2.2.1 a j.1.toNatClampNeg (some b), v.2.2.2)) else none) else none
/-- a call whose answer, if any, is let go -/
def zs_call (F : Mth) (as : ZA) : ZS := fun L h => (as L h).bind fun r => (F r.1 r.2).bind fun q => some (0, L, q.2)
/-- System.arraycopy(x, 0, y, 0, n), ints, two arrays -/
def zs_copy (x y : ZR) (e : ZI) : ZS := fun L h => (x L h).bind fun r => (y L r.2).bind fun t => (e L t.2).bind fun v => match r.1, t.1 with
  | some a, some b => match v.2.2.2[a]?, v.2.2.2[b]? with
    | some qa, some qb => if qa.1 = 100 ∧ qb.1 = 100 ∧ ¬ v.1 < 0 ∧ v.1.toNatClampNeg ≤ qa.2 ∧ v.1.toNatClampNeg ≤ qb.2 then some (0, L, (zrow v.2.1 b (va_cpy (v.2.1 a) (v.2.1 b) 0 0 v.1.toNatClampNeg), v.2.2)) else none
    | _, _ => none
  | _, _ => none
def zs_seq (s1 s2 : ZS) : ZS := fun L h => (s1 L h).bind fun r => if r.1 = 0 then s2 r.2.1 r.2.2 else some r
def zs_if (c : ZC) (s1 s2 : ZS) : ZS := fun L h => (c L h).bind fun b => if b.1 = true then s1 L b.2 else s2 L b.2
def zs_brk : ZS := fun L h => some (1, L, h)
def zs_cnt : ZS := fun L h => some (2, L, h)
def zs_thr : ZS := fun L h => some (4, L, h)
def zs_ret : ZS := fun L h => some (3, L, h)
def zs_reti (e : ZI) : ZS := fun L h => (e L h).bind fun r => some (3, (upd L.1 999 r.1, L.2), r.2)
def zs_retr (e : ZR) : ZS := fun L h => (e L h).bind fun r => some (3, (L.1, va_up L.2 999 r.1), r.2)
/-- a loop, at most n times round: c the test, s the body, u what is done behind each round -/
def zs_wn (c : ZC) (s u : ZS) : Nat → ZS
  | 0 => fun _ _ => none
  | n + 1 => fun L h => (c L h).bind fun b => if b.1 = true then (s L b.2).bind fun r => (if r.1 = 0 ∨ r.1 = 2 then (u r.2.1 r.2.2).bind fun t => if t.1 = 0 then zs_wn c s u n t.2.1 t.2.2 else none else if r.1 = 1 then some (0, r.2) else some r) else some (0, L, b.2)
def zwN : Nat := 5000
def zs_w (c : ZC) (s u : ZS) : ZS := zs_wn c s u zwN
/-- a switch: the places of its cases by number, and the default's -/
def zs_sw (e : ZI) (f : Int32 → ZS) : ZS := fun L h => (e L h).bind fun r => (f r.1 L r.2).bind fun t => if t.1 = 1 then some (0, t.2) else some t
/-! methods -/
def zf_i (as : List Value) : Nat → Int32 := fun i => match as[i]? with
  | some (.int v) => v
  | _ => 0
def zf_r (as : List Value) : Nat → Option Nat := fun i => match as[i]? with
  | some (.ref a) => some a
  | _ => none
def zf (as : List Value) : Fr := (zf_i as, zf_r as)
/-- the arguments are of those types (false: an int, true: a reference) -/
def zty : List Bool → List Value → Bool
  | [], [] => true
  | false :: ts, .int _ :: vs => zty ts vs
  | true :: ts, .null :: vs => zty ts vs
  | true :: ts, .ref _ :: vs => zty ts vs
  | _, _ => false
/-- a method that answers an int; a boolean (fit says 0 or 1); a reference; nothing -/
def zm_i (ts : List Bool) (fit : Int32 → Bool) (b : ZS) : Mth := fun as h => if zty ts as = true then (b (zf as) h).bind fun r => if r.1 = 3 ∧ fit (r.2.1.1 999) = true then some (.int (r.2.1.1 999), r.2.2) else none else none
def zm_r (ts : List Bool) (b : ZS) : Mth := fun as h => if zty ts as = true then (b (zf as) h).bind fun r => if r.1 = 3 then some (va_rf (r.2.1.2 999), r.2.2) else none else none
def zm_v (ts : List Bool) (b : ZS) : Mth := fun as h => if zty ts as = true then (b (zf as) h).bind fun r => if r.1 = 0 ∨ r.1 = 3 then some (.int 0, r.2.2) else none else none
def zfit (_ : Int32) : Bool := true
def zfitZ (v : Int32) : Bool := v == 0 || v == 1
def zfitC (v : Int32) : Bool := decide (¬ v < 0) && decide (v ≤ 65535)
