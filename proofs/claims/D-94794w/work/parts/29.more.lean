/-! MORE JUDGEMENTS: gotos behind expressions, switches, S.in, copies, Object's constructor, filled arrays. -/
set_option maxRecDepth 100000
def zo_add (x y : Int32) : Int32 := x + y
def zo_sub (x y : Int32) : Int32 := x - y
def zo_mul (x y : Int32) : Int32 := x * y
def zo_and (x y : Int32) : Int32 := x &&& y
def zo_or (x y : Int32) : Int32 := x ||| y
def zo_xor (x y : Int32) : Int32 := x ^^^ y
def zo_shl (x y : Int32) : Int32 := x <<< (y &&& 31)
def zo_shr (x y : Int32) : Int32 := x >>> (y &&& 31)
def zo_ushr (x y : Int32) : Int32 := (x.toUInt32 >>> (y.toUInt32 &&& Int32.toUInt32 31)).toInt32
def zo_div (x y : Int32) : Int32 := x / y
def zo_rem (x y : Int32) : Int32 := x - x / y * y
def zo_neg (x : Int32) : Int32 := -x
def zo_i2b (x : Int32) : Int32 := x.toInt8.toInt32
def zo_i2s (x : Int32) : Int32 := x.toInt16.toInt32
def zo_i2c (x : Int32) : Int32 := (x.toUInt32 % 65536).toInt32
/-- a switch whose cases don't fall out of it -/
def zs_cs (e : ZI) (f : Int32 → ZS) : ZS := fun L h => (e L h).bind fun r => f r.1 L r.2
/-- local i is an object -/
def zs_nn (i : Nat) : ZS := fun L h => match L.2 i with
  | some _ => some (0, L, h)
  | none => none
/-- low <= x <= high -/
def ze_in (e1 e2 e3 : ZI) : ZI := fun L h => (e1 L h).bind fun r1 => (e2 L r1.2).bind fun r2 => (e3 L r2.2).bind fun r3 => some (if r2.1 ≤ r1.1 ∧ r1.1 ≤ r3.1 then 1 else 0, r3.2)
/-- an array that is being filled: its element i set, a Town -/
def zr_put (r : ZR) (i : ZI) (e : ZR) : ZR := fun L h => (r L h).bind fun r => (i L r.2).bind fun j => (e L j.2).bind fun v => match r.1, v.1 with
  | some a, some b => match v.2.2.2[a]? with
    | none => none
    | some q => if q.1 = 103 ∧ zinb j.1 q.2 = true ∧ v.2.2.2[b]? = some (1, 6) then some (some a, (v.2.1, zur v.2.2.1 a j.1.toNatClampNeg (some b), v.2.2.2)) else none
  | _, _ => none
theorem zft_i : ∀ v : Int32, narrow .int (.int v) = .int v ∧ fits .int (.int v) = true := fun _ => ⟨rfl, rfl⟩
theorem zft_I : ∀ v : Int32, zfit v = true → narrow .int (.int v) = .int v ∧ fits .int (.int v) = true := fun _ _ => ⟨rfl, rfl⟩
theorem zfitZ_or {v : Int32} (h : zfitZ v = true) : v = 0 ∨ v = 1 := by
  unfold zfitZ at h
  rw [Bool.or_eq_true, beq_iff_eq, beq_iff_eq] at h
  exact h
theorem zft_Z : ∀ v : Int32, zfitZ v = true → narrow .boolean (.int v) = .int v ∧ fits .boolean (.int v) = true := fun v h => by
  rcases zfitZ_or h with rfl | rfl <;> exact ⟨by decide, by decide⟩
theorem znr_I : ∀ v : Int32, zfit v = true → narrow .int (.int v) = .int v := fun _ _ => rfl
theorem znr_Z : ∀ v : Int32, zfitZ v = true → narrow .boolean (.int v) = .int v := fun v h => (zft_Z v h).1
section ZM
variable {own : String} {cc : ByteArray} {nL d pc : Nat} {ini : Bool} {off : Int} {rk : Nat} {ts tb ts2 : List Bool} {a b c x y pb pk k : Nat}
theorem zj_Ig {e : ZI} (h1 : zj_I own cc nL d ini ts k a y e) (hd : decode cc y = .ok (.goto off, 3)) (ht : (y : Int) + off = (x : Int)) : zj_I own cc nL d ini ts k a x e :=
  ⟨h1.1, fun Z hX L st h v h' e hc hk kk => h1.2 Z hX L st h v h' e hc hk (zw_goto hX ht hd kk)⟩
theorem zj_Rg {e : ZR} (h1 : zj_R own cc nL d ini ts k a y e) (hd : decode cc y = .ok (.goto off, 3)) (ht : (y : Int) + off = (x : Int)) : zj_R own cc nL d ini ts k a x e :=
  ⟨h1.1, fun Z hX L st h v h' e hc hk kk => h1.2 Z hX L st h v h' e hc hk (zw_goto hX ht hd kk)⟩
theorem zj_t2 {cd : ZC} {e1 e2 : ZI} {T F : Nat} (h0 : zj_C own cc nL d ini ts k a T F cd) (h1 : zj_I own cc nL d ini ts k T x e1) (h2 : zj_I own cc nL d ini ts k F x e2) : zj_I own cc nL d ini ts k a x (ze_t cd e1 e2) := by
  refine ⟨fun L h v h' ee => ?_, fun Z hX L st h v h' ee hc hk kk => ?_⟩
  · obtain ⟨⟨bv, h3⟩, q1, q2⟩ := Option.bind_eq_some_iff.mp ee
    cases bv with
    | true => exact zle_trans (h0.1 L h _ _ q1) (h1.1 L _ _ _ q2)
    | false => exact zle_trans (h0.1 L h _ _ q1) (h2.1 L _ _ _ q2)
  · obtain ⟨⟨bv, h3⟩, q1, q2⟩ := Option.bind_eq_some_iff.mp ee
    cases bv with
    | true => exact h0.2 Z hX L st h _ h3 q1 (zcap_le (h1.1 L _ _ _ q2) hc) hk (fun _ => h1.2 Z hX L st h3 _ h' q2 hc hk kk) (fun q => by cases q)
    | false => exact h0.2 Z hX L st h _ h3 q1 (zcap_le (h2.1 L _ _ _ q2) hc) hk (fun q => by cases q) (fun _ => h2.2 Z hX L st h3 _ h' q2 hc hk kk)
theorem zj_rt2 {cd : ZC} {e1 e2 : ZR} {T F : Nat} (h0 : zj_C own cc nL d ini ts k a T F cd) (h1 : zj_R own cc nL d ini ts k T x e1) (h2 : zj_R own cc nL d ini ts k F x e2) : zj_R own cc nL d ini ts k a x (zr_t cd e1 e2) := by
  refine ⟨fun L h v h' ee => ?_, fun Z hX L st h v h' ee hc hk kk => ?_⟩
  · obtain ⟨⟨bv, h3⟩, q1, q2⟩ := Option.bind_eq_some_iff.mp ee
    cases bv with
    | true => exact zle_trans (h0.1 L h _ _ q1) (h1.1 L _ _ _ q2)
    | false => exact zle_trans (h0.1 L h _ _ q1) (h2.1 L _ _ _ q2)
  · obtain ⟨⟨bv, h3⟩, q1, q2⟩ := Option.bind_eq_some_iff.mp ee
    cases bv with
    | true => exact h0.2 Z hX L st h _ h3 q1 (zcap_le (h1.1 L _ _ _ q2) hc) hk (fun _ => h1.2 Z hX L st h3 _ h' q2 hc hk kk) (fun q => by cases q)
    | false => exact h0.2 Z hX L st h _ h3 q1 (zcap_le (h2.1 L _ _ _ q2) hc) hk (fun q => by cases q) (fun _ => h2.2 Z hX L st h3 _ h' q2 hc hk kk)
theorem zj_brk0 (hs : ∀ (i : Nat) (bb : Bool), tb[i]? = some bb → ts[i]? = some bb) : zj_S own cc nL d ini rk ts tb ts2 pb x pb pk zs_brk :=
  ⟨fun L h r e => by cases e; exact zle_rfl, fun Z hX L h r e _ _ k1 _ _ _ => by cases e; exact zw_less hs (k1 rfl)⟩
/-! switches -/
def zjsw (own : String) (cc : ByteArray) (nL d : Nat) (ini : Bool) (pc : Nat) (tg : Int32 → Nat) : Prop := ∀ Z, zx own cc nL d ini Z → ∀ L ts st h v, zw Z nL (tg v) L ts st h → zw Z nL pc L ts (.int v :: st) h
/-- the target of a case: by a list of cases, and the default's -/
def zlk : List (Int32 × Nat) → Nat → Int32 → Nat
  | [], t, _ => t
  | q :: r, t, v => if v = q.1 then q.2 else zlk r t v
theorem zlk_out {t : Nat} {v : Int32} : ∀ {vs : List (Int32 × Nat)}, (∀ q ∈ vs, v ≠ q.1) → zlk vs t v = t := by
  intro vs
  induction vs with
  | nil => intro _; rfl
  | cons q r ih =>
    intro h
    unfold zlk
    rw [if_neg (h q List.mem_cons_self)]
    exact ih (fun z hz => h z (List.mem_cons_of_mem _ hz))
theorem zsw_table {dflt lo hi : Int} {offs : Array Int} {len td : Nat} {vs : List (Int32 × Nat)} (hd : decode cc pc = .ok (.tableswitch dflt lo hi offs, len)) (hdf : (pc : Int) + dflt = (td : Int)) (h1 : vs.all (fun q => decide (lo ≤ q.1.toInt) && decide (q.1.toInt ≤ hi)) = true)
    (h2 : (List.range (hi - lo + 1).toNat).all (fun i => match offs[i]? with | some o => decide ((pc : Int) + o = (zlk vs td (Int32.ofInt (lo + i)) : Int)) | none => false) = true) : zjsw own cc nL d ini pc (zlk vs td) := by
  intro Z hX L ts st h v kk
  obtain ⟨p, l, e, R, s, m, args, below, meth, co, Q, A, G, cC, cS⟩ := Z
  intro ad H locs ls cells slots hr hlv hok
  by_cases hv : v.toInt < lo ∨ hi < v.toInt
  · have e1 : zlk vs td v = td := zlk_out (fun q hq e => by
      have := List.all_eq_true.mp h1 q hq
      rw [Bool.and_eq_true, decide_eq_true_eq, decide_eq_true_eq] at this
      rw [← e] at this
      omega)
    rw [e1] at kk
    exact lv_tableOut hX.1 hX.2.1 hd hv hdf (kk ad H locs ls cells slots hr hlv (zok_tl hok))
  · have hi1 : (v.toInt - lo).toNat ∈ List.range (hi - lo + 1).toNat := List.mem_range.mpr (by omega)
    have h3 := List.all_eq_true.mp h2 _ hi1
    cases ho : offs[(v.toInt - lo).toNat]? with
    | none => rw [ho] at h3; cases h3
    | some o =>
      rw [ho] at h3
      dsimp only at h3
      have h4 := of_decide_eq_true h3
      rw [show lo + (((v.toInt - lo).toNat : Nat) : Int) = v.toInt by omega, Int32.ofInt_toInt] at h4
      exact lv_tableIn hX.1 hX.2.1 hd (by omega) (by omega) ho h4 (kk ad H locs ls cells slots hr hlv (zok_tl hok))
theorem zlk_off {t : Nat} {dflt : Int} {v : Int32} (hdf : (pc : Int) + dflt = (t : Int)) : ∀ {ps : List (Int × Int)} {vs : List (Int32 × Nat)}, ps.length = vs.length → (ps.zip vs).all (fun z => decide (z.1.1 = z.2.1.toInt) && decide ((pc : Int) + z.1.2 = (z.2.2 : Int))) = true → (pc : Int) + Op.lookupswitch.offset ps dflt v.toInt = (zlk vs t v : Int) := by
  intro ps
  induction ps with
  | nil =>
    intro vs hl _
    cases vs with
    | nil => exact hdf
    | cons _ _ => cases hl
  | cons q r ih =>
    intro vs hl ha
    cases vs with
    | nil => cases hl
    | cons w ws =>
      rw [List.zip_cons_cons, List.all_cons, Bool.and_eq_true, Bool.and_eq_true, decide_eq_true_eq, decide_eq_true_eq] at ha
      obtain ⟨⟨a1, a2⟩, a3⟩ := ha
      obtain ⟨q1, q2⟩ := q
      rw [Op.lookupswitch.offset_cons]
      unfold zlk
      by_cases e : v = w.1
      · rw [if_pos e, if_pos (by rw [e]; exact a1)]
        exact a2
      · rw [if_neg e, if_neg (fun z => e (Int32.toInt_inj.mp (z.symm.trans a1)))]
        exact ih (Nat.succ.inj hl) a3
theorem zsw_lookup {dflt : Int} {ps : Array (Int × Int)} {len td : Nat} {vs : List (Int32 × Nat)} (hd : decode cc pc = .ok (.lookupswitch dflt ps, len)) (hdf : (pc : Int) + dflt = (td : Int)) (hp : (ps.toList.zip (ps.toList.drop 1)).all (fun (a, next) => a.1 < next.1) = true) (hl : ps.toList.length = vs.length) (ha : (ps.toList.zip vs).all (fun z => decide (z.1.1 = z.2.1.toInt) && decide ((pc : Int) + z.1.2 = (z.2.2 : Int))) = true) : zjsw own cc nL d ini pc (zlk vs td) := by
  intro Z hX L ts st h v kk
  obtain ⟨p, l, e, R, s, m, args, below, meth, co, Q, A, G, cC, cS⟩ := Z
  intro ad H locs ls cells slots hr hlv hok
  exact lv_lookup hX.1 hX.2.1 hd hp rfl (zlk_off hdf hl ha) (kk ad H locs ls cells slots hr hlv (zok_tl hok))
theorem zj_cs {e : ZI} {f : Int32 → ZS} {tg : Int32 → Nat} (h1 : zj_I own cc nL d ini ts 0 a b e) (ho : zjsw own cc nL d ini b tg) (h2 : ∀ v, zj_S own cc nL d ini rk ts tb ts2 (tg v) x pb pk (f v)) : zj_S own cc nL d ini rk ts tb ts2 a x pb pk (zs_cs e f) := by
  refine ⟨fun L h r ee => ?_, fun Z hX L h r ee hc k0 k1 k2 k3 k4 => ?_⟩
  · obtain ⟨⟨v, g⟩, q1, q2⟩ := Option.bind_eq_some_iff.mp ee
    exact zle_trans (h1.1 L h _ _ q1) ((h2 v).1 L g _ q2)
  · obtain ⟨⟨v, g⟩, q1, q2⟩ := Option.bind_eq_some_iff.mp ee
    exact h1.2 Z hX L [] h _ g q1 (zcap_le ((h2 v).1 L g _ q2) hc) (Nat.le_refl 0) (ho Z hX L ts [] g v ((h2 v).2 Z hX L g r q2 hc k0 k1 k2 k3 k4))
theorem zj_sif {s1 s2 : ZS} {t1 t2 : Nat} {v w : Int32} (h1 : zj_S own cc nL d ini rk ts tb ts2 t1 x pb pk s1) (h2 : zj_S own cc nL d ini rk ts tb ts2 t2 x pb pk s2) : zj_S own cc nL d ini rk ts tb ts2 (if v = w then t1 else t2) x pb pk (if v = w then s1 else s2) := by
  by_cases q : v = w
  · rw [if_pos q, if_pos q]; exact h1
  · rw [if_neg q, if_neg q]; exact h2
/-! S.in(long, long, long) -/
def F_X1_in : Mth := fun as h => match as with
  | [.long u, .long v, .long w] => some (.int (if v ≤ u ∧ u ≤ w then 1 else 0), h)
  | _ => none
theorem zin_key {as : List Value} {h : Hp} {r : Value × Hp} (e : F_X1_in as h = some r) : ∃ u v w, as = [.long u, .long v, .long w] ∧ r = (.int (if v ≤ u ∧ u ≤ w then 1 else 0), h) := by
  unfold F_X1_in at e
  split at e
  · rename_i u v w
    cases e
    exact ⟨u, v, w, rfl, rfl⟩
  · cases e
theorem zlcmp_lt {u v : Int64} : lg_cmp u v < 0 ↔ u < v := lg_cmp_lt u v
theorem zlcmp_gt {u v : Int64} : 0 < lg_cmp u v ↔ v < u := lg_cmp_gt u v
theorem M_X1_in : zMet yX1_in cX1_in 6 (some .boolean) 0 0 F_X1_in := by
  refine ⟨fun as h v h2 e => ?_, fun l G ad h as v h2 sz e hwf has hcap hstr => ?_⟩
  · obtain ⟨u, v, w, rfl, e2⟩ := zin_key e
    cases e2
    exact zle_rfl
  · obtain ⟨u, v', w, rfl, e2⟩ := zin_key e
    cases e2
    refine Met.ofW (cc := cX1_in) (maxL := 6) (ret := some .boolean) (by decide +kernel) rfl ?_
    intro p e s0 m args below meth c s₁ B hml hv
    obtain ⟨hargs, hsz, hP, hK, hD, hew, hex⟩ := hv
    have hts := atoms_spec (ws := ws_ yX1_in cX1_in 6 (some .boolean)) B.pre
    have hts : ∀ w ∈ lw_all, w.before args s0 = true := fun w h => hts w (List.mem_cons_of_mem _ h)
    have hown : s0.vm.findClass yX1_in.cls = some m.cls := findClass_of_methodNamed B.named
    have go : ∀ (r : Int32), zfitZ r = true → zretI cX1_in ((p, l, e, (headSpec (ws_ yX1_in cX1_in 6 (some .boolean)) (zrm 0 h h)).room, s0, m, args, below, meth, c, MQ below (zQ 0 G ad h h sz (.int r)) args s0 (h.2.2.length - h.2.2.length) (zsum h.2.2 - zsum h.2.2) (va_A (zws G ad h) sz), va_A (zws G ad h) sz, (G.1, G.2.1, G.2.2.1, G.2.2.2.1, ad, h.2.2.length), h.2.2.length, zsum h.2.2) : ZK) r h := by
      intro r hr
      have X : zx yX1_in.cls cX1_in 6 0 false ((p, l, e, (headSpec (ws_ yX1_in cX1_in 6 (some .boolean)) (zrm 0 h h)).room, s0, m, args, below, meth, c, MQ below (zQ 0 G ad h h sz (.int r)) args s0 (h.2.2.length - h.2.2.length) (zsum h.2.2 - zsum h.2.2) (va_A (zws G ad h) sz), va_A (zws G ad h) sz, (G.1, G.2.1, G.2.2.1, G.2.2.2.1, ad, h.2.2.length), h.2.2.length, zsum h.2.2) : ZK) :=
        ⟨B.exec, B.bytes, hml, hown, hts, hK, hew.2.1, hew, hex, fun q hq => Or.inr (by rw [← hsz]; exact hq), Nat.le_refl _, Nat.le_refl _, hcap, B.notSynchronized, fun hi => by cases hi⟩
      exact zend_i X rfl (znr_Z r hr) rfl hstr hsz B.returns
    subst hargs
    subst hsz
    rw [lg_entry_eq]
    have hl := lv_entry (n := 6) [.long u, .long v', .long w] (Nat.le_refl 6)
    show W _ _ _ _ _ _ _ _ _ _ _ _ _ _ _ (F0 m 0 ((lg_sl [Value.long u, .long v', .long w] ++ List.replicate (6 - (lg_sl [Value.long u, .long v', .long w]).length) Slot.unset).toArray) [])
    generalize ((lg_sl [Value.long u, .long v', .long w] ++ List.replicate (6 - (lg_sl [Value.long u, .long v', .long w]).length) Slot.unset).toArray) = ls at hl ⊢
    have hR : zr (G.1, G.2.1, G.2.2.1, G.2.2.2.1, ad, h.2.2.length) (va_A (zws G ad h) s0.heap.size) s0 (headSpec (ws_ yX1_in cX1_in 6 (some .boolean)) (zrm 0 h h)).room h.2.2.length (zsum h.2.2) ad h s0.heap [] 0 0 :=
      ⟨hP, hD.self, va_S.rf, hwf, hstr, by show 0 + h.2.2.length ≤ (h.2.2.length - h.2.2.length) + h.2.2.length; omega, by show 0 + zsum h.2.2 ≤ (zsum h.2.2 - zsum h.2.2) + zsum h.2.2; omega, Nat.le_refl _, Nat.le_refl _, fun a _ => rfl, Nat.le_refl _⟩
    have l0 : ls[0]? = some (.val (.long u)) := lv_at hl 0 rfl
    have l2 : ls[2]? = some (.val (.long v')) := lv_at hl 1 rfl
    have l4 : ls[4]? = some (.val (.long w)) := lv_at hl 2 rfl
    refine lv_lload_n B.exec B.bytes dX1_in_0 rfl l0 ?_
    refine lv_lload_n B.exec B.bytes dX1_in_1 rfl l2 ?_
    refine W.lcmp B.exec B.bytes dX1_in_2 ?_
    have no : (¬ (v' ≤ u ∧ u ≤ w)) → W p l e (headSpec (ws_ yX1_in cX1_in 6 (some .boolean)) (zrm 0 h h)).room s0 m (List.map (zt ad) [Value.long u, .long v', .long w]).toArray below meth c s0.heap [] 0 0 (MQ below (zQ 0 G ad h h s0.heap.size (.int (if v' ≤ u ∧ u ≤ w then 1 else 0))) (List.map (zt ad) [Value.long u, .long v', .long w]).toArray s0 (h.2.2.length - h.2.2.length) (zsum h.2.2 - zsum h.2.2) (va_A (zws G ad h) s0.heap.size)) (F0 m 17 ls []) := by
      intro q
      rw [if_neg q]
      exact lv_iconst B.exec B.bytes dX1_in_17 rfl (go 0 rfl ad s0.heap [] ls 0 0 18 hR dX1_in_18)
    refine lv_if_lt B.exec B.bytes dX1_in_3 rfl (fun q => no (fun z => absurd (zlcmp_lt.mp q) (Int64.not_lt.mpr z.1))) (fun q => ?_)
    refine lv_lload_n B.exec B.bytes dX1_in_6 rfl l0 ?_
    refine lv_lload B.exec B.bytes dX1_in_7 l4 ?_
    refine W.lcmp B.exec B.bytes dX1_in_9 ?_
    refine lv_if_gt B.exec B.bytes dX1_in_10 rfl (fun q2 => no (fun z => absurd (zlcmp_gt.mp q2) (Int64.not_lt.mpr z.2))) (fun q2 => ?_)
    rw [if_pos ⟨Int64.not_lt.mp (fun z => q (zlcmp_lt.mpr z)), Int64.not_lt.mp (fun z => q2 (zlcmp_gt.mpr z))⟩]
    refine lv_iconst B.exec B.bytes dX1_in_13 rfl ?_
    exact lv_goto B.exec B.bytes dX1_in_14 rfl (go 1 rfl ad s0.heap [] ls 0 0 18 hR dX1_in_18)
theorem zin64 {x y : Int32} : x.toInt64 ≤ y.toInt64 ↔ x ≤ y := by
  rw [Int64.le_iff_toInt_le, Int32.le_iff_toInt_le, Int32.toInt_toInt64, Int32.toInt_toInt64]
theorem zj_in {e1 e2 e3 : ZI} {c2 : Nat} (h1 : zj_L RX1 cc nL d ini ts k a b e1) (h2 : zj_L RX1 cc nL d ini ts (k + 2) b c e2) (h3 : zj_L RX1 cc nL d ini ts (k + 4) c c2 e3) (hd1 : 0 + 1 ≤ d) (hk8 : k ≤ 8) (hd : decode cc c2 = .ok (.invokestatic 100, 3)) : zj_I RX1 cc nL d ini ts k a (c2 + 3) (ze_in e1 e2 e3) := by
  have key : ∀ L h v h', ze_in e1 e2 e3 L h = some (v, h') → ∃ x g1 y g2 z, e1 L h = some (x, g1) ∧ e2 L g1 = some (y, g2) ∧ e3 L g2 = some (z, h') ∧ v = (if y ≤ x ∧ x ≤ z then 1 else 0) := by
    intro L h v h' ee
    obtain ⟨⟨x, g1⟩, q1, q2⟩ := Option.bind_eq_some_iff.mp ee
    obtain ⟨⟨y, g2⟩, q3, q4⟩ := Option.bind_eq_some_iff.mp q2
    obtain ⟨⟨z, g3⟩, q5, q6⟩ := Option.bind_eq_some_iff.mp q4
    cases q6
    exact ⟨x, g1, y, g2, z, q1, q3, q5, rfl⟩
  refine ⟨fun L h v h' ee => ?_, fun Z hX L st h v h' ee hc hk kk => ?_⟩
  · obtain ⟨x, g1, y, g2, z, q1, q2, q3, -⟩ := key L h v h' ee
    exact zle_trans (h1.1 L h _ _ q1) (zle_trans (h2.1 L _ _ _ q2) (h3.1 L _ _ _ q3))
  · obtain ⟨x, g1, y, g2, z, q1, q2, q3, rfl⟩ := key L h v h' ee
    have hc2 : zcap Z g2 := zcap_le (h3.1 L _ _ _ q3) hc
    refine h1.2 Z hX L st h _ g1 q1 (zcap_le (h2.1 L _ _ _ q2) hc2) hk ?_
    refine h2.2 Z hX L _ g1 _ g2 q2 hc2 (by rw [zwt_c]; show 2 + zwt st ≤ k + 2; omega) ?_
    refine h3.2 Z hX L _ g2 _ h' q3 hc (by rw [zwt_c, zwt_c]; show 2 + (2 + zwt st) ≤ k + 4; omega) ?_
    have e : F_X1_in [.long x.toInt64, .long y.toInt64, .long z.toInt64] h' = some (.int (if y ≤ x ∧ x ≤ z then 1 else 0), h') := by
      show some (Value.int (if y.toInt64 ≤ x.toInt64 ∧ x.toInt64 ≤ z.toInt64 then 1 else 0), h') = _
      have e1 : (y.toInt64 ≤ x.toInt64 ∧ x.toInt64 ≤ z.toInt64) = (y ≤ x ∧ x ≤ z) := by rw [zin64, zin64]
      simp only [e1]
    exact zw_callS (as := [.long x.toInt64, .long y.toInt64, .long z.toInt64]) (n := 3) hX M_X1_in (Or.inl rfl) hd1 (Nat.le_of_ble_eq_true rfl) q323 q324 q89 q325 (by decide +kernel) hd e rfl hc (by omega) kk
/-! Object's constructor -/
theorem zj_obj {ix : Nat} (hd0 : decode cc a = .ok (.aload_n 0, 1)) (hl : Cond.methodLink own ix Lib.objectInit ∈ lw_all) (ht : ts[0]? = some true) (h1 : 0 + 1 ≤ d) (hd : decode cc (a + 1) = .ok (.invokespecial ix, 3)) : zj_S own cc nL d ini rk ts tb ts a (a + 4) pb pk (zs_nn 0) := by
  have hN : ∀ L h r, zs_nn 0 L h = some r → r = (0, L, h) ∧ ∃ o, L.2 0 = some o := by
    intro L h r ee
    unfold zs_nn at ee
    cases ho : L.2 0 with
    | none => rw [ho] at ee; cases ee
    | some o => rw [ho] at ee; cases ee; exact ⟨rfl, o, rfl⟩
  refine ⟨fun L h r ee => ?_, fun Z hX L h r ee hc k0 _ _ _ _ => ?_⟩
  · obtain ⟨rfl, -⟩ := hN L h r ee
    exact zle_rfl
  · obtain ⟨rfl, o, ho⟩ := hN L h r ee
    refine zw_aload_n (i := 0) hX rfl ht hd0 ?_
    have kk := k0 rfl
    obtain ⟨p, l, e, R, s, m, args, below, meth, co, Q, A, G, cC, cS⟩ := Z
    intro ad H locs ls cells slots hr hlv hok
    have r1 : d ≤ R.frames := hX.2.2.2.2.2.2.2.2.2.2.1
    have r2 : 64 * d ≤ R.locals := hX.2.2.2.2.2.2.2.2.2.2.2.1
    have hw := hX.2.2.2.2.1
    rw [ho]
    exact W.objInit hX.1 hX.2.1 hX.2.2.2.1 (hw _ hl) (hw _ q115) (hw _ q116) rfl (hlv.1.trans hX.2.2.1.symm) rfl hd (by omega) (by show 2 * 0 + 0 + 12 ≤ R.locals; omega) (kk ad H locs ls cells slots hr hlv (zok_tl hok))
/-! System.arraycopy(x, 0, y, 0, n) -/
theorem zj_copy {xo yo : ZR} {e : ZI} {ix c2 : Nat} (h1 : zj_R own cc nL d ini ts 0 a b xo) (hd1 : decode cc b = .ok (.iconst 0, 1)) (h2 : zj_R own cc nL d ini ts 2 (b + 1) c yo) (hd2 : decode cc c = .ok (.iconst 0, 1)) (h3 : zj_I own cc nL d ini ts 4 (c + 1) c2 e) (hl : Cond.methodLink own ix arraycopyName ∈ lw_all) (hdp : 0 + 1 ≤ d) (hd : decode cc c2 = .ok (.invokestatic ix, 3)) : zj_S own cc nL d ini rk ts tb ts a (c2 + 3) pb pk (zs_copy xo yo e) := by
  have key : ∀ L h r, zs_copy xo yo e L h = some r → ∃ o g1 q g2 v g3 no nq, xo L h = some (some o, g1) ∧ yo L g1 = some (some q, g2) ∧ e L g2 = some (v, g3) ∧ g3.2.2[o]? = some (100, no) ∧ g3.2.2[q]? = some (100, nq) ∧ ¬ v < 0 ∧ v.toNatClampNeg ≤ no ∧ v.toNatClampNeg ≤ nq ∧ r = (0, L, (zrow g3.1 q (va_cpy (g3.1 o) (g3.1 q) 0 0 v.toNatClampNeg), g3.2)) := by
    intro L h r ee
    obtain ⟨⟨o, g1⟩, q1, q2⟩ := Option.bind_eq_some_iff.mp ee
    obtain ⟨⟨q, g2⟩, q3, q4⟩ := Option.bind_eq_some_iff.mp q2
    obtain ⟨⟨v, g3⟩, q5, q6⟩ := Option.bind_eq_some_iff.mp q4
    cases o with
    | none => cases q6
    | some o =>
      cases q with
      | none => cases q6
      | some q =>
        dsimp only at q3 q5 q6
        cases ha : g3.2.2[o]? with
        | none => rw [ha] at q6; cases q6
        | some qa =>
          cases hb : g3.2.2[q]? with
          | none => rw [ha, hb] at q6; cases q6
          | some qb =>
            rw [ha, hb] at q6
            dsimp only at q6
            by_cases hh : qa.1 = 100 ∧ qb.1 = 100 ∧ ¬ v < 0 ∧ v.toNatClampNeg ≤ qa.2 ∧ v.toNatClampNeg ≤ qb.2
            · rw [if_pos hh] at q6
              cases q6
              obtain ⟨qa1, qa2⟩ := qa
              obtain ⟨qb1, qb2⟩ := qb
              obtain ⟨t1, t2, t3, t4, t5⟩ := hh
              dsimp only at t1 t2 t4 t5
              subst t1
              subst t2
              exact ⟨o, g1, q, g2, v, g3, qa2, qb2, q1, q3, q5, ha, hb, t3, t4, t5, rfl⟩
            · rw [if_neg hh] at q6
              cases q6
  refine ⟨fun L h r ee => ?_, fun Z hX L h r ee hc k0 _ _ _ _ => ?_⟩
  · obtain ⟨o, g1, q, g2, v, g3, no, nq, q1, q2, q3, q4, q5, q6, q7, q8, rfl⟩ := key L h r ee
    exact zle_trans (zle_trans (zle_trans (h1.1 L h _ _ q1) (h2.1 L _ _ _ q2)) (h3.1 L _ _ _ q3)) (zle_eq rfl)
  · obtain ⟨o, g1, q, g2, v, g3, no, nq, q1, q2, q3, q4, q5, q6, q7, q8, rfl⟩ := key L h r ee
    have hc3 : zcap Z g3 := zcap_le (zle_eq rfl) hc
    have hc2 : zcap Z g2 := zcap_le (h3.1 L _ _ _ q3) hc3
    refine h1.2 Z hX L [] h _ g1 q1 (zcap_le (h2.1 L _ _ _ q2) hc2) (Nat.le_refl 0) ?_
    refine zw_const hX 0 rfl hd1 ?_
    refine h2.2 Z hX L _ g1 _ g2 q2 hc2 (by rw [zcat_i1, zcat_r1]; exact Nat.le_refl 2) ?_
    refine zw_const hX 0 rfl hd2 ?_
    refine h3.2 Z hX L _ g2 _ g3 q3 hc3 (by rw [zcat_i1, zcat_r1, zcat_i1, zcat_r1]; exact Nat.le_refl 4) ?_
    have kk := k0 rfl
    obtain ⟨p, l, e, R, s, m, args, below, meth, co, Q, A, G, cC, cS⟩ := Z
    intro ad H locs ls cells slots hr hlv hok
    have hw := hX.2.2.2.2.1
    have r1 : d ≤ R.frames := hX.2.2.2.2.2.2.2.2.2.2.1
    have r2 : 64 * d ≤ R.locals := hX.2.2.2.2.2.2.2.2.2.2.2.1
    have r3 : nativeFrameWords "java/lang/System" "arraycopy" 5 + 11 ≤ 64 := by decide +kernel
    have hK := hX.2.2.2.2.2.1
    have ea : (zws G ad g3)[o]? = some (ad o, .inl (G.2.1 0, no, .inl (g3.1 o))) := by rw [zws_at q4, zce_int]
    have eb : (zws G ad g3)[q]? = some (ad q, .inl (G.2.1 0, nq, .inl (g3.1 q))) := by rw [zws_at q5, zce_int]
    refine va_copyi (D := G.1) (ty := .int) hX.1 hX.2.1 (hX.2.2.1.trans hlv.1.symm) hX.2.2.2.1 (hw _ hl) (hw _ q458) (hw _ q457) (hw _ q98) hK hr.1 hr.2.1 hr.2.2.1 o q 0 0 ea eb rfl rfl rfl (by decide) (by decide) q6 (by show 0 + v.toNatClampNeg ≤ no; omega) (by show 0 + v.toNatClampNeg ≤ nq; omega) (fun _ _ => rfl) (by omega) (by show 0 + (nativeFrameWords "java/lang/System" "arraycopy" 5 + 11) ≤ R.locals; omega) hd ?_
    intro H1 locs1 hP hD hS
    have ew : (zws G ad g3).set q (ad q, .inl (G.2.1 0, nq, .inl (va_cpy (g3.1 o) (g3.1 q) 0 0 v.toNatClampNeg))) = zws G ad (zrow g3.1 q (va_cpy (g3.1 o) (g3.1 q) 0 0 v.toNatClampNeg), g3.2) := by
      have e2 : zce G ad (zrow g3.1 q (va_cpy (g3.1 o) (g3.1 q) 0 0 v.toNatClampNeg), g3.2) q (100, nq) = .inl (G.2.1 0, nq, .inl (va_cpy (g3.1 o) (g3.1 q) 0 0 v.toNatClampNeg)) := by
        rw [zce_int]
        show Sum.inl (G.2.1 0, nq, Sum.inl (zrow g3.1 q _ q)) = _
        rw [zrow_on]
      rw [← e2]
      exact zws_up rfl q5 (fun j hj => ⟨zrow_off hj, rfl⟩)
    have hP : va_P G.1 zcl ((zws G ad g3).set q (ad q, .inl (G.2.1 0, nq, .inl (va_cpy (g3.1 o) (g3.1 q) 0 0 v.toNatClampNeg)))) H1 := hP
    have hD : va_D A ((zws G ad g3).set q (ad q, .inl (G.2.1 0, nq, .inl (va_cpy (g3.1 o) (g3.1 q) 0 0 v.toNatClampNeg)))) := hD
    rw [ew] at hP hD
    exact kk ad H1 locs1 ls cells slots (zr_st hr rfl (fun j n a ha => hr.2.2.2.1 j n a ha) hP hD hS) hlv (zok_K rfl ⟨hok.1, fun a ha => by cases ha⟩)
/-! an array that is being filled -/
theorem zj_put {r : ZR} {i : ZI} {e : ZR} {c2 : Nat} (h1 : zj_R own cc nL d ini ts k a b r) (hdup : decode cc b = .ok (.dup, 1)) (h2 : zj_I own cc nL d ini ts (k + 2) (b + 1) c i) (h3 : zj_R own cc nL d ini ts (k + 3) c c2 e) (hd : decode cc c2 = .ok (.aastore, 1)) : zj_R own cc nL d ini ts k a (c2 + 1) (zr_put r i e) := by
  have key : ∀ L h w h', zr_put r i e L h = some (w, h') → ∃ o g1 j g2 v g3 m, r L h = some (some o, g1) ∧ i L g1 = some (j, g2) ∧ e L g2 = some (some v, g3) ∧ g3.2.2[o]? = some (103, m) ∧ zinb j m = true ∧ g3.2.2[v]? = some (1, 6) ∧ w = some o ∧ h' = (g3.1, zur g3.2.1 o j.toNatClampNeg (some v), g3.2.2) := by
    intro L h w h' ee
    obtain ⟨⟨o, g1⟩, q1, q2⟩ := Option.bind_eq_some_iff.mp ee
    obtain ⟨⟨j, g2⟩, q3, q4⟩ := Option.bind_eq_some_iff.mp q2
    obtain ⟨⟨v, g3⟩, q5, q6⟩ := Option.bind_eq_some_iff.mp q4
    cases o with
    | none => cases q6
    | some o =>
      cases v with
      | none => cases q6
      | some v =>
        dsimp only at q3 q5 q6
        cases ha : g3.2.2[o]? with
        | none => rw [ha] at q6; cases q6
        | some q =>
          rw [ha] at q6
          dsimp only at q6
          by_cases hh : q.1 = 103 ∧ zinb j q.2 = true ∧ g3.2.2[v]? = some (1, 6)
          · rw [if_pos hh] at q6
            cases q6
            obtain ⟨qa1, qa2⟩ := q
            obtain ⟨t1, t2, t3⟩ := hh
            dsimp only at t1 t2
            subst t1
            exact ⟨o, g1, j, g2, v, g3, qa2, q1, q3, q5, ha, t2, t3, rfl, rfl⟩
          · rw [if_neg hh] at q6
            cases q6
  refine ⟨fun L h w h' ee => ?_, fun Z hX L st h w h' ee hc hk kk => ?_⟩
  · obtain ⟨o, g1, j, g2, v, g3, m, q1, q2, q3, q4, q5, q6, rfl, rfl⟩ := key L h w h' ee
    exact zle_trans (zle_trans (zle_trans (h1.1 L h _ _ q1) (h2.1 L _ _ _ q2)) (h3.1 L _ _ _ q3)) (zle_eq rfl)
  · obtain ⟨o, g1, j, g2, v, g3, m, q1, q2, q3, q4, q5, q6, rfl, rfl⟩ := key L h w h' ee
    have hc3 : zcap Z g3 := zcap_le (zle_eq rfl) hc
    have hc2 : zcap Z g2 := zcap_le (h3.1 L _ _ _ q3) hc3
    refine h1.2 Z hX L st h _ g1 q1 (zcap_le (h2.1 L _ _ _ q2) hc2) hk ?_
    refine zw_dup hX (zcat_rf _) hdup ?_
    refine h2.2 Z hX L _ g1 _ g2 q2 hc2 (by rw [zcat_r1, zcat_r1]; omega) ?_
    refine h3.2 Z hX L _ g2 _ g3 q3 hc3 (by rw [zcat_i1, zcat_r1, zcat_r1]; omega) ?_
    exact zw_aast hX hd q4 q5 (fun w' hw' => by cases hw'; exact q6) kk
end ZM
