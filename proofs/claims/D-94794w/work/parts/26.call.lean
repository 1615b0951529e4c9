/-! METHODS: what a method's meaning says of the machine, and calls. -/
set_option maxRecDepth 100000
/-- a method's start -/
def zPre (G : ZG) (ad : Nat → Nat) (h : Hp) (sz : Nat) (U : State) : Prop := U.heap.size = sz ∧ va_P G.1 zcl (zws G ad h) U.heap ∧ va_K G.1 zcl (ztys G) U ∧ va_D (fun _ => True) (zws G ad h) ∧ zew G U ∧ zex G (va_A (zws G ad h) sz) U U.heap
def zB (G : ZG) (ad : Nat → Nat) (h h2 : Hp) (sz : Nat) (ad2 : Nat → Nat) (t : State) : Prop := (∀ a, zid h a → ad2 a = ad a) ∧ va_P G.1 zcl (zws G ad2 h2) t.heap ∧ va_D (va_A (zws G ad h) sz) (zws G ad2 h2) ∧ zwf h2
/-- a method's end: rk 0 an int, 1 a reference, 2 nothing -/
def zQ (rk : Nat) (G : ZG) (ad : Nat → Nat) (h h2 : Hp) (sz : Nat) (v : Value) : Array Value → State → Outcome → State → Prop :=
  if rk = 0 then va_Qi (S := Nat → Nat) (fun r _ => v = .int r) (zB G ad h h2 sz) (va_A (zws G ad h) sz)
  else if rk = 1 then va_Qq (S := Nat → Nat) (fun r ad2 => ∃ r0 : Option Nat, v = va_rf r0 ∧ r = r0.map ad2 ∧ ∀ a, r0 = some a → zid h2 a) (zB G ad h h2 sz) (va_A (zws G ad h) sz)
  else va_Qv (S := Nat → Nat) (fun _ => True) (zB G ad h h2 sz) (va_A (zws G ad h) sz)
abbrev zrm (d : Nat) (h h2 : Hp) : Room := { frames := d, cells := h2.2.2.length - h.2.2.length, slots := zsum h2.2.2 - zsum h.2.2, locals := 64 * d }
/-- THE CONTRACT OF A METHOD BY ITS MEANING: wherever F has an answer, the machine comes to it -/
def zMet (y : MethodName) (co : ByteArray) (mL : Nat) (ret : Option FieldType) (rk d : Nat) (F : Mth) : Prop :=
  (∀ as h v h2, F as h = some (v, h2) → zle h h2) ∧
  ∀ (l : Launch) (G : ZG) (ad : Nat → Nat) (h : Hp) (as : List Value) (v : Value) (h2 : Hp) (sz : Nat), F as h = some (v, h2) → zwf h → (∀ a, Value.ref a ∈ as → zid h a) → h2.2.2.length ≤ 1000000 → (∀ k, k < 13 → ad (1000000 + k) = G.2.2.1 k) →
    Met l y (ws_ y co mL ret) (zrm d h h2) (va_Pc (as.map (zt ad)) (zPre G ad h sz)) (zQ rk G ad h h2 sz v) (h2.2.2.length - h.2.2.length) (zsum h2.2.2 - zsum h.2.2) (va_A (zws G ad h) sz)
/-- a method of an object of class c: asks that the first argument is one -/
def zvt (c n : Nat) (F : Mth) : Mth := fun as h => match as with
  | .ref o :: _ => if h.2.2[o]? = some (c, n) then F as h else none
  | _ => none
def zrcv (c n : Nat) (F : Mth) : Prop := ∀ as h r, F as h = some r → ∃ o rest, as = .ref o :: rest ∧ h.2.2[o]? = some (c, n)
theorem zvt_key {c n : Nat} {F : Mth} {as : List Value} {h : Hp} {r : Value × Hp} (e : zvt c n F as h = some r) : F as h = some r ∧ ∃ o rest, as = .ref o :: rest ∧ h.2.2[o]? = some (c, n) := by
  unfold zvt at e
  cases as with
  | nil => cases e
  | cons v rest =>
    cases v with
    | ref o =>
      dsimp only at e
      by_cases hh : h.2.2[o]? = some (c, n)
      · rw [if_pos hh] at e
        exact ⟨e, o, rest, rfl, hh⟩
      · rw [if_neg hh] at e
        cases e
    | _ => cases e
theorem zrcv_vt {c n : Nat} {F : Mth} : zrcv c n (zvt c n F) := fun _ _ _ e => (zvt_key e).2
theorem zMet_vt {y : MethodName} {co : ByteArray} {mL : Nat} {ret : Option FieldType} {rk d c n : Nat} {F : Mth} (hM : zMet y co mL ret rk d F) : zMet y co mL ret rk d (zvt c n F) :=
  ⟨fun as h v h2 e => hM.1 as h v h2 (zvt_key e).1, fun l G ad h as v h2 sz e => hM.2 l G ad h as v h2 sz (zvt_key e).1⟩
/-! entry -/
theorem zargs {ts : List Bool} : ∀ {as : List Value}, zty ts as = true → as.length = ts.length ∧ (∀ v ∈ as, v.category = 1) ∧ ∀ (i : Nat) (b : Bool), ts[i]? = some b → ∃ v, as[i]? = some v ∧ (b = false → ∃ x, v = .int x) ∧ (b = true → v = .null ∨ ∃ a, v = .ref a) := by
  induction ts with
  | nil =>
    intro as h
    cases as with
    | nil => exact ⟨rfl, (fun v hv => by cases hv), (fun i b hb => by simp at hb)⟩
    | cons v vs => simp [zty] at h
  | cons t ts ih =>
    intro as h
    cases as with
    | nil => cases t <;> simp [zty] at h
    | cons v vs =>
      have key : zty ts vs = true ∧ v.category = 1 ∧ (t = false → ∃ x, v = .int x) ∧ (t = true → v = .null ∨ ∃ a, v = .ref a) := by
        cases t <;> cases v <;> simp [zty] at h <;> simp [h, Value.category]
      obtain ⟨h1, h2, h3, h4⟩ := key
      obtain ⟨g1, g2, g3⟩ := ih h1
      refine ⟨by rw [List.length_cons, List.length_cons, g1], fun w hw => ?_, fun i b hb => ?_⟩
      · rcases List.mem_cons.mp hw with rfl | hw
        · exact h2
        · exact g2 w hw
      · cases i with
        | zero =>
          rw [List.getElem?_cons_zero] at hb
          cases hb
          exact ⟨v, rfl, h3, h4⟩
        | succ i =>
          rw [List.getElem?_cons_succ] at hb
          obtain ⟨w, w1, w2⟩ := g3 i b hb
          exact ⟨w, by rw [List.getElem?_cons_succ]; exact w1, w2⟩
theorem zargs_mem {ad : Nat → Nat} : ∀ (as : List Value), (∀ v ∈ as, v.category = 1) → ∀ (n i : Nat) (v : Value), as[i]? = some v → (n + i, zt ad v) ∈ lv_args n (as.map (zt ad)) := by
  intro as
  induction as with
  | nil => intro _ n i v h; simp at h
  | cons w ws ih =>
    intro hc n i v h
    show _ ∈ (n, zt ad w) :: lv_args (if (zt ad w).category = 2 then n + 2 else n + 1) (ws.map (zt ad))
    have hw : (zt ad w).category = 1 := by rw [zt_cat]; exact hc w List.mem_cons_self
    rw [if_neg (by rw [hw]; decide)]
    cases i with
    | zero =>
      rw [List.getElem?_cons_zero] at h
      cases h
      exact List.mem_cons_self
    | succ i =>
      rw [List.getElem?_cons_succ] at h
      have := ih (fun v hv => hc v (List.mem_cons_of_mem _ hv)) (n + 1) i v h
      rw [show n + 1 + i = n + (i + 1) by omega] at this
      exact List.mem_cons_of_mem _ this
theorem zargs_len {ad : Nat → Nat} : ∀ (as : List Value), (∀ v ∈ as, v.category = 1) → (lg_sl (as.map (zt ad))).length = as.length := by
  intro as
  induction as with
  | nil => intro _; rfl
  | cons w ws ih =>
    intro hc
    have hw : (zt ad w).category = 1 := by rw [zt_cat]; exact hc w List.mem_cons_self
    have e : lg_sl ((w :: ws).map (zt ad)) = [.val (zt ad w)] ++ lg_sl (ws.map (zt ad)) := by
      unfold lg_sl
      rw [List.map_cons, List.flatMap_cons, if_neg (by rw [hw]; decide)]
    rw [e, List.length_append, ih (fun v hv => hc v (List.mem_cons_of_mem _ hv)), List.length_cons]
    show 1 + ws.length = ws.length + 1
    omega
theorem zentry {ad : Nat → Nat} {ts : List Bool} {as : List Value} {nL : Nat} (h : zty ts as = true) (hn : ts.length ≤ nL) : lv_has ((lg_sl (as.map (zt ad)) ++ List.replicate (nL - (lg_sl (as.map (zt ad))).length) Slot.unset).toArray) nL (zlv ad (zf as) ts) := by
  obtain ⟨h1, h2, h3⟩ := zargs h
  refine zlv_sub (lv_entry (as.map (zt ad)) (by rw [zargs_len as h2, h1]; exact hn)) fun q hq => ?_
  obtain ⟨b, hb, he⟩ := zlv_mem.mp hq
  obtain ⟨v, hv, v1, v2⟩ := h3 q.1 b hb
  have hm := zargs_mem (ad := ad) as h2 0 q.1 v hv
  rw [Nat.zero_add] at hm
  have e : q.2 = zt ad v := by
    rw [he]
    cases b with
    | false =>
      obtain ⟨x, rfl⟩ := v1 rfl
      show Value.int (zf_i as q.1) = _
      unfold zf_i
      rw [hv]
      rfl
    | true =>
      show va_rf ((zf_r as q.1).map ad) = _
      unfold zf_r
      rw [hv]
      rcases v2 rfl with rfl | ⟨o, rfl⟩ <;> rfl
  rw [← e] at hm
  exact hm
theorem zentry_ok {ts : List Bool} {as : List Value} {h : Hp} (hv : ∀ a, Value.ref a ∈ as → zid h a) : zok h (zf as) ts [] := by
  refine ⟨fun i a _ ha => ?_, fun a ha => by cases ha⟩
  have ha : zf_r as i = some a := ha
  unfold zf_r at ha
  split at ha
  · rename_i x hx
    cases ha
    exact hv _ (List.mem_of_getElem? hx)
  · cases ha
/-- a method's body, walked from its entry -/
theorem zwalk {y : MethodName} {co : ByteArray} {mL : Nat} {ret : Option FieldType} {rk d x : Nat} {ini : Bool} {ts ts2 : List Bool} {s : ZS} (hy : plainName y.cls = true) (hini : ini = true → y.name = "<init>") (hn : ts.length ≤ mL) (hj : zj_S y.cls co mL d ini rk ts [] ts2 0 x 0 0 s)
    {l : Launch} {G : ZG} {ad : Nat → Nat} {h : Hp} {as : List Value} {v : Value} {r : Nat × Fr × Hp} {sz : Nat} (ht : zty ts as = true) (hs : s (zf as) h = some r) (hwf : zwf h) (has : ∀ a, Value.ref a ∈ as → zid h a) (hcap : r.2.2.2.2.length ≤ 1000000) (hstr : ∀ k, k < 13 → ad (1000000 + k) = G.2.2.1 k)
    (hend : ∀ Z : ZK, zx y.cls co mL d ini Z → (∀ p e s m args below meth c, Z = (p, l, e, (headSpec (ws_ y co mL ret) (zrm d h r.2.2)).room, s, m, args, below, meth, c, MQ below (zQ rk G ad h r.2.2 sz v) args s (r.2.2.2.2.length - h.2.2.length) (zsum r.2.2.2.2 - zsum h.2.2) (va_A (zws G ad h) sz), va_A (zws G ad h) sz, (G.1, G.2.1, G.2.2.1, G.2.2.2.1, ad, h.2.2.length), r.2.2.2.2.length, zsum r.2.2.2.2) → s.heap.size = sz → meth.sig.returnType = ret →
      (r.1 = 0 → zw Z mL x r.2.1 ts2 [] r.2.2) ∧ (r.1 = 3 → zret rk co Z r.2.1 r.2.2) ∧ r.1 ≠ 1 ∧ r.1 ≠ 2 ∧ r.1 ≠ 4)) :
    Met l y (ws_ y co mL ret) (zrm d h r.2.2) (va_Pc (as.map (zt ad)) (zPre G ad h sz)) (zQ rk G ad h r.2.2 sz v) (r.2.2.2.2.length - h.2.2.length) (zsum r.2.2.2.2 - zsum h.2.2) (va_A (zws G ad h) sz) := by
  have hle := hj.1 _ _ _ hs
  refine Met.ofW (cc := co) (maxL := mL) (ret := ret) hy rfl ?_
  intro p e s0 m args below meth c s₁ B hml hv
  obtain ⟨hargs, hsz, hP, hK, hD, hew, hex⟩ := hv
  have hts := atoms_spec (ws := ws_ y co mL ret) B.pre
  have hts : ∀ w ∈ lw_all, w.before args s0 = true := fun w h => hts w (List.mem_cons_of_mem _ h)
  have hown : s0.vm.findClass y.cls = some m.cls := findClass_of_methodNamed B.named
  generalize hZ : ((p, l, e, (headSpec (ws_ y co mL ret) (zrm d h r.2.2)).room, s0, m, args, below, meth, c, MQ below (zQ rk G ad h r.2.2 sz v) args s0 (r.2.2.2.2.length - h.2.2.length) (zsum r.2.2.2.2 - zsum h.2.2) (va_A (zws G ad h) sz), va_A (zws G ad h) sz, (G.1, G.2.1, G.2.2.1, G.2.2.2.1, ad, h.2.2.length), r.2.2.2.2.length, zsum r.2.2.2.2) : ZK) = Z
  have X : zx y.cls co mL d ini Z := by
    rw [← hZ]
    exact ⟨B.exec, B.bytes, hml, hown, hts, hK, hew.2.1, hew, hex, fun q hq => Or.inr (by rw [← hsz]; exact hq), Nat.le_refl _, Nat.le_refl _, hcap, B.notSynchronized, fun hi => (name_of_methodNamed B.named B.method).1.trans (hini hi)⟩
  obtain ⟨e0, e3, e1, e2, e4⟩ := hend Z X p e s0 m args below meth c hZ.symm hsz B.returns
  have w := hj.2 Z X (zf as) h r hs (by rw [← hZ]; exact ⟨Nat.le_refl _, Nat.le_refl _⟩) e0 (fun q => absurd q e1) (fun q => absurd q e2) e3 (fun q => absurd q e4)
  subst hargs
  subst hsz
  rw [← hZ] at w
  rw [lg_entry_eq]
  have l1 := zle_len hle
  have l2 := zle_sum hle
  exact w ad s0.heap [] _ 0 0 ⟨hP, hD.self, va_S.rf, hwf, hstr, by show 0 + r.2.2.2.2.length ≤ (r.2.2.2.2.length - h.2.2.length) + h.2.2.length; omega, by show 0 + zsum r.2.2.2.2 ≤ (zsum r.2.2.2.2 - zsum h.2.2) + zsum h.2.2; omega, l1, l2, fun a _ => rfl, Nat.le_refl _⟩ (zentry ht hn) (zentry_ok has)
/-- the end, an int -/
theorem zend_i {l : Launch} {y : MethodName} {co : ByteArray} {mL d : Nat} {ini : Bool} {ret : Option FieldType} {ty : FieldType} {G : ZG} {ad : Nat → Nat} {h h2 : Hp} {sz : Nat} {v : Int32} {Z : ZK} {own : String} (hX : zx own co mL d ini Z) (hret : ret = some ty) (hnar : narrow ty (.int v) = .int v) {p : Program} {e : Env} {s : State} {m : MethodId} {args : Array Value} {below : List Frame} {meth : Method} {c : Code} (hZ : Z = (p, l, e, (headSpec (ws_ y co mL ret) (zrm d h h2)).room, s, m, args, below, meth, c, MQ below (zQ 0 G ad h h2 sz (.int v)) args s (h2.2.2.length - h.2.2.length) (zsum h2.2.2 - zsum h.2.2) (va_A (zws G ad h) sz), va_A (zws G ad h) sz, (G.1, G.2.1, G.2.2.1, G.2.2.2.1, ad, h.2.2.length), h2.2.2.length, zsum h2.2.2)) (hstr : ∀ k, k < 13 → ad (1000000 + k) = G.2.2.1 k) (hsz : s.heap.size = sz) (hr : meth.sig.returnType = ret) : zretI co Z v h2 := by
  subst hZ
  intro ad2 H locs ls cells slots pc hr2 hd
  obtain ⟨hP, hD, hS, hwf, hs2, hc1, hc2, hc3, hc4, hag, hn0⟩ := hr2
  have hc1 : cells + h2.2.2.length ≤ (h2.2.2.length - h.2.2.length) + h2.2.2.length := hc1
  have hc2 : slots + zsum h2.2.2 ≤ (zsum h2.2.2 - zsum h.2.2) + zsum h2.2.2 := hc2
  refine W.widen (k := h2.2.2.length - h.2.2.length) (n := zsum h2.2.2 - zsum h.2.2) (by omega) (by omega) ?_
  refine W.zret (ty := ty) hX.1 hX.2.1 (hr.trans hret) hnar (fun t ht hW => ?_) hS.2.2 hd (hlocks := hX.2.2.2.2.2.2.2.2.2.2.2.2.2.1)
  unfold zQ
  rw [if_pos rfl]
  refine ⟨⟨v, ad2, rfl, rfl, fun a ha => ?_, by rw [ht]; exact hP, hD, hwf⟩, hS.F ht⟩
  rcases ha with ha | ⟨ha1, ha2⟩
  · exact hag a ha
  · have := hs2 (a - 1000000) (by omega)
    rw [show 1000000 + (a - 1000000) = a by omega] at this
    rw [this, ← hstr (a - 1000000) (by omega), show 1000000 + (a - 1000000) = a by omega]
theorem zend_r {l : Launch} {y : MethodName} {co : ByteArray} {mL d : Nat} {ini : Bool} {ret : Option FieldType} {C : String} {G : ZG} {ad : Nat → Nat} {h h2 : Hp} {sz : Nat} {r : Option Nat} {Z : ZK} {own : String} (hX : zx own co mL d ini Z) (hret : ret = some (.object C)) {p : Program} {e : Env} {s : State} {m : MethodId} {args : Array Value} {below : List Frame} {meth : Method} {c : Code} (hZ : Z = (p, l, e, (headSpec (ws_ y co mL ret) (zrm d h h2)).room, s, m, args, below, meth, c, MQ below (zQ 1 G ad h h2 sz (va_rf r)) args s (h2.2.2.length - h.2.2.length) (zsum h2.2.2 - zsum h.2.2) (va_A (zws G ad h) sz), va_A (zws G ad h) sz, (G.1, G.2.1, G.2.2.1, G.2.2.2.1, ad, h.2.2.length), h2.2.2.length, zsum h2.2.2)) (hstr : ∀ k, k < 13 → ad (1000000 + k) = G.2.2.1 k) (hsz : s.heap.size = sz) (hr : meth.sig.returnType = ret) : zretR co Z r h2 := by
  subst hZ
  intro ad2 H locs ls cells slots pc hr2 hid hd
  obtain ⟨hP, hD, hS, hwf, hs2, hc1, hc2, hc3, hc4, hag, hn0⟩ := hr2
  have hc1 : cells + h2.2.2.length ≤ (h2.2.2.length - h.2.2.length) + h2.2.2.length := hc1
  have hc2 : slots + zsum h2.2.2 ≤ (zsum h2.2.2 - zsum h.2.2) + zsum h2.2.2 := hc2
  refine W.widen (k := h2.2.2.length - h.2.2.length) (n := zsum h2.2.2 - zsum h.2.2) (by omega) (by omega) ?_
  refine W.aret (v := va_rf (r.map ad2)) (rt := .object C) hX.1 hX.2.1 (hr.trans hret) (Or.inl ⟨C, rfl⟩) (by cases r with | none => exact Or.inl rfl | some a => exact Or.inr ⟨_, rfl⟩) (fun t ht hW => ?_) hS.2.2 hd (hlocks := hX.2.2.2.2.2.2.2.2.2.2.2.2.2.1)
  unfold zQ
  rw [if_neg (by decide), if_pos rfl]
  refine ⟨⟨r.map ad2, ad2, rfl, ⟨r, rfl, rfl, hid⟩, fun a ha => ?_, by rw [ht]; exact hP, hD, hwf⟩, hS.F ht⟩
  rcases ha with ha | ⟨ha1, ha2⟩
  · exact hag a ha
  · have := hs2 (a - 1000000) (by omega)
    rw [show 1000000 + (a - 1000000) = a by omega] at this
    rw [this, ← hstr (a - 1000000) (by omega), show 1000000 + (a - 1000000) = a by omega]
theorem zend_v {l : Launch} {y : MethodName} {co : ByteArray} {mL d : Nat} {ini : Bool} {G : ZG} {ad : Nat → Nat} {h h2 : Hp} {sz : Nat} {v : Value} {Z : ZK} {own : String} (hX : zx own co mL d ini Z) {p : Program} {e : Env} {s : State} {m : MethodId} {args : Array Value} {below : List Frame} {meth : Method} {c : Code} (hZ : Z = (p, l, e, (headSpec (ws_ y co mL none) (zrm d h h2)).room, s, m, args, below, meth, c, MQ below (zQ 2 G ad h h2 sz v) args s (h2.2.2.length - h.2.2.length) (zsum h2.2.2 - zsum h.2.2) (va_A (zws G ad h) sz), va_A (zws G ad h) sz, (G.1, G.2.1, G.2.2.1, G.2.2.2.1, ad, h.2.2.length), h2.2.2.length, zsum h2.2.2)) (hstr : ∀ k, k < 13 → ad (1000000 + k) = G.2.2.1 k) (hsz : s.heap.size = sz) (hr : meth.sig.returnType = none) : zretV co Z h2 := by
  subst hZ
  intro ad2 H locs ls cells slots pc hr2 hd
  obtain ⟨hP, hD, hS, hwf, hs2, hc1, hc2, hc3, hc4, hag, hn0⟩ := hr2
  have hc1 : cells + h2.2.2.length ≤ (h2.2.2.length - h.2.2.length) + h2.2.2.length := hc1
  have hc2 : slots + zsum h2.2.2 ≤ (zsum h2.2.2 - zsum h.2.2) + zsum h2.2.2 := hc2
  refine W.widen (k := h2.2.2.length - h.2.2.length) (n := zsum h2.2.2 - zsum h.2.2) (by omega) (by omega) ?_
  refine W.vret hX.1 hX.2.1 hr (fun t ht hW => ?_) hS.2.2 hd (hlocks := hX.2.2.2.2.2.2.2.2.2.2.2.2.2.1)
  unfold zQ
  rw [if_neg (by decide), if_neg (by decide)]
  refine ⟨⟨ad2, rfl, trivial, fun a ha => ?_, by rw [ht]; exact hP, hD, hwf⟩, hS.F ht⟩
  rcases ha with ha | ⟨ha1, ha2⟩
  · exact hag a ha
  · have := hs2 (a - 1000000) (by omega)
    rw [show 1000000 + (a - 1000000) = a by omega] at this
    rw [this, ← hstr (a - 1000000) (by omega), show 1000000 + (a - 1000000) = a by omega]
/-- A METHOD THAT ANSWERS AN INT (or a boolean) -/
theorem zMet_i {y : MethodName} {co : ByteArray} {mL d x : Nat} {ty : FieldType} {ts ts2 : List Bool} {fit : Int32 → Bool} {s : ZS} (hy : plainName y.cls = true) (hn : ts.length ≤ mL) (hfit : ∀ v, fit v = true → narrow ty (.int v) = .int v) (hj : zj_S y.cls co mL d false 0 ts [] ts2 0 x 0 0 s) : zMet y co mL (some ty) 0 d (zm_i ts fit s) := by
  have key : ∀ as h v h2, zm_i ts fit s as h = some (v, h2) → zty ts as = true ∧ ∃ r, s (zf as) h = some r ∧ r.1 = 3 ∧ fit (r.2.1.1 999) = true ∧ v = .int (r.2.1.1 999) ∧ h2 = r.2.2 := by
    intro as h v h2 e
    unfold zm_i at e
    by_cases ht : zty ts as = true
    · rw [if_pos ht] at e
      obtain ⟨r, q1, q2⟩ := Option.bind_eq_some_iff.mp e
      by_cases hh : r.1 = 3 ∧ fit (r.2.1.1 999) = true
      · rw [if_pos hh] at q2
        cases q2
        exact ⟨ht, r, q1, hh.1, hh.2, rfl, rfl⟩
      · rw [if_neg hh] at q2
        cases q2
    · rw [if_neg ht] at e
      cases e
  refine ⟨fun as h v h2 e => ?_, fun l G ad h as v h2 sz e hwf has hcap hstr => ?_⟩
  · obtain ⟨ht, r, q1, q2, q3, rfl, rfl⟩ := key as h v h2 e
    exact hj.1 _ _ _ q1
  · obtain ⟨ht, r, q1, q2, q3, rfl, rfl⟩ := key as h v h2 e
    refine zwalk hy (fun q => by cases q) hn hj ht q1 hwf has hcap hstr ?_
    intro Z X p e s0 m args below meth c hZ hsz hr
    refine ⟨(fun q => by rw [q2] at q; cases q), fun _ => ?_, (by rw [q2]; decide), (by rw [q2]; decide), (by rw [q2]; decide)⟩
    unfold zret
    rw [if_pos rfl]
    exact zend_i X rfl (hfit _ q3) hZ hstr hsz hr
theorem zMet_r {y : MethodName} {co : ByteArray} {mL d x : Nat} {C : String} {ts ts2 : List Bool} {s : ZS} (hy : plainName y.cls = true) (hn : ts.length ≤ mL) (hj : zj_S y.cls co mL d false 1 ts [] ts2 0 x 0 0 s) : zMet y co mL (some (.object C)) 1 d (zm_r ts s) := by
  have key : ∀ as h v h2, zm_r ts s as h = some (v, h2) → zty ts as = true ∧ ∃ r, s (zf as) h = some r ∧ r.1 = 3 ∧ v = va_rf (r.2.1.2 999) ∧ h2 = r.2.2 := by
    intro as h v h2 e
    unfold zm_r at e
    by_cases ht : zty ts as = true
    · rw [if_pos ht] at e
      obtain ⟨r, q1, q2⟩ := Option.bind_eq_some_iff.mp e
      by_cases hh : r.1 = 3
      · rw [if_pos hh] at q2
        cases q2
        exact ⟨ht, r, q1, hh, rfl, rfl⟩
      · rw [if_neg hh] at q2
        cases q2
    · rw [if_neg ht] at e
      cases e
  refine ⟨fun as h v h2 e => ?_, fun l G ad h as v h2 sz e hwf has hcap hstr => ?_⟩
  · obtain ⟨ht, r, q1, q2, rfl, rfl⟩ := key as h v h2 e
    exact hj.1 _ _ _ q1
  · obtain ⟨ht, r, q1, q2, rfl, rfl⟩ := key as h v h2 e
    refine zwalk hy (fun q => by cases q) hn hj ht q1 hwf has hcap hstr ?_
    intro Z X p e s0 m args below meth c hZ hsz hr
    refine ⟨(fun q => by rw [q2] at q; cases q), fun _ => ?_, (by rw [q2]; decide), (by rw [q2]; decide), (by rw [q2]; decide)⟩
    unfold zret
    rw [if_neg (by decide), if_pos rfl]
    exact zend_r X rfl hZ hstr hsz hr
theorem zMet_v {y : MethodName} {co : ByteArray} {mL d x : Nat} {ini : Bool} {ts ts2 : List Bool} {s : ZS} (hy : plainName y.cls = true) (hini : ini = true → y.name = "<init>") (hn : ts.length ≤ mL) (hj : zj_S y.cls co mL d ini 2 ts [] ts2 0 x 0 0 s) (hd : decode co x = .ok (.return_, 1)) : zMet y co mL none 2 d (zm_v ts s) := by
  have key : ∀ as h v h2, zm_v ts s as h = some (v, h2) → zty ts as = true ∧ ∃ r, s (zf as) h = some r ∧ (r.1 = 0 ∨ r.1 = 3) ∧ h2 = r.2.2 := by
    intro as h v h2 e
    unfold zm_v at e
    by_cases ht : zty ts as = true
    · rw [if_pos ht] at e
      obtain ⟨r, q1, q2⟩ := Option.bind_eq_some_iff.mp e
      by_cases hh : r.1 = 0 ∨ r.1 = 3
      · rw [if_pos hh] at q2
        cases q2
        exact ⟨ht, r, q1, hh, rfl⟩
      · rw [if_neg hh] at q2
        cases q2
    · rw [if_neg ht] at e
      cases e
  refine ⟨fun as h v h2 e => ?_, fun l G ad h as v h2 sz e hwf has hcap hstr => ?_⟩
  · obtain ⟨ht, r, q1, q2, rfl⟩ := key as h v h2 e
    exact hj.1 _ _ _ q1
  · obtain ⟨ht, r, q1, q2, rfl⟩ := key as h v h2 e
    refine zwalk hy hini hn hj ht q1 hwf has hcap hstr ?_
    intro Z X p e s0 m args below meth c hZ hsz hr
    have hv : zretV co Z r.2.2 := zend_v X hZ hstr hsz hr
    refine ⟨fun q => ?_, fun _ => ?_, by omega, by omega, by omega⟩
    · subst hZ
      intro ad2 H locs ls cells slots hr2 hlv hok
      exact hv ad2 H locs ls cells slots x hr2 hd
    · unfold zret
      rw [if_neg (by decide), if_neg (by decide)]
      exact hv
