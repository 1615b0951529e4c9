/-! NEW OBJECTS, COPIES, ARITHMETIC, JUMPS, RETURNS -/
set_option maxRecDepth 100000
section ZMORE
variable {own : String} {cc : ByteArray} {nL d pc : Nat} {ini : Bool} {Z : ZK} {L : Fr} {ts : List Bool} {st : List Value} {h : Hp}
theorem zmap_up {ad : Nat → Nat} {r : Option Nat} {n q : Nat} (hr : ∀ a, r = some a → a ≠ n) : r.map (va_up ad n q) = r.map ad := by
  cases r with
  | none => rfl
  | some a =>
    show some (va_up ad n q a) = some (ad a)
    unfold va_up
    rw [if_neg (hr a rfl)]
theorem zid_ne {h : Hp} {a : Nat} (hc : h.2.2.length < 1000000) (ha : zid h a) : a ≠ h.2.2.length := by
  rcases ha with q | q <;> omega
theorem zid_up {h : Hp} {ad : Nat → Nat} {q a : Nat} (hc : h.2.2.length < 1000000) (ha : zid h a) : va_up ad h.2.2.length q a = ad a := by
  unfold va_up
  rw [if_neg (zid_ne hc ha)]
/-- the picture with one more object -/
theorem zws_new {G : ZG} {ad : Nat → Nat} {q c n : Nat} (hw : zwf h) (hc : h.2.2.length < 1000000) : zws G (va_up ad h.2.2.length q) (zh_new c n h) = zws G ad h ++ [(q, zce G (va_up ad h.2.2.length q) (zh_new c n h) h.2.2.length (c, n))] := by
  apply List.ext_getElem?
  intro j
  have hl : (zws G ad h).length = h.2.2.length := by unfold zws; rw [List.length_mapIdx]
  by_cases hj : j < h.2.2.length
  · rw [List.getElem?_append_left (by rw [hl]; exact hj)]
    unfold zws
    rw [List.getElem?_mapIdx, List.getElem?_mapIdx]
    show Option.map _ (h.2.2 ++ [(c, n)])[j]? = _
    rw [List.getElem?_append_left hj]
    cases h.2.2[j]? with
    | none => rfl
    | some kd =>
      have hne : j ≠ h.2.2.length := by omega
      have e1 : va_up ad h.2.2.length q j = ad j := by unfold va_up; rw [if_neg hne]
      have e2 : (zh_new c n h).1 j = h.1 j := by show zrow h.1 h.2.2.length _ j = _; unfold zrow; rw [if_neg hne]
      have e3 : (zh_new c n h).2.1 j = h.2.1 j := by show (if j = h.2.2.length then _ else h.2.1 j) = _; rw [if_neg hne]
      show some (va_up ad h.2.2.length q j, zce G (va_up ad h.2.2.length q) (zh_new c n h) j kd) = some (ad j, zce G ad h j kd)
      rw [e1, zce_congr e2 e3]
      have e4 : ∀ k, (h.2.1 j k).map (va_up ad h.2.2.length q) = (h.2.1 j k).map ad := fun k => zmap_up (fun a ha => zid_ne hc (hw j k a ha))
      unfold zce zfs zfv
      simp only [e4]
  · by_cases hj2 : j = h.2.2.length
    · subst hj2
      rw [List.getElem?_append_right (by rw [hl]; exact Nat.le_refl _), hl, Nat.sub_self]
      rw [zws_at (kd := (c, n)) (by show (h.2.2 ++ [(c, n)])[h.2.2.length]? = _; rw [List.getElem?_append_right (Nat.le_refl _), Nat.sub_self]; rfl)]
      show some (va_up ad h.2.2.length q h.2.2.length, _) = _
      have : va_up ad h.2.2.length q h.2.2.length = q := by unfold va_up; rw [if_pos rfl]
      rw [this]
      rfl
    · rw [List.getElem?_eq_none, List.getElem?_eq_none]
      · rw [List.length_append, hl]
        show h.2.2.length + 1 ≤ j
        omega
      · unfold zws
        rw [List.length_mapIdx]
        show (h.2.2 ++ [(c, n)]).length ≤ j
        rw [List.length_append]
        show h.2.2.length + 1 ≤ j
        omega
theorem zwf_new {c n : Nat} (hw : zwf h) : zwf (zh_new c n h) := by
  intro i k a ha
  have ha : (if i = h.2.2.length then (fun _ => none) else h.2.1 i) k = some a := ha
  by_cases hi : i = h.2.2.length
  · rw [if_pos hi] at ha
    cases ha
  · rw [if_neg hi] at ha
    exact zid_le ⟨[(c, n)], rfl⟩ (hw i k a ha)
/-- a picture with one object more, at the address q -/
theorem zr_new1 {G : ZG} {A : Nat → Prop} {s : State} {R : Room} {cC cS : Nat} {ad : Nat → Nat} {H H1 : Heap} {locs : List Loc} {cells slots q c n : Nat} (hr : zr G A s R cC cS ad h H locs cells slots) (hc : cC ≤ 1000000) (hroom : (zh_new c n h).2.2.length ≤ cC ∧ zsum (zh_new c n h).2.2 ≤ cS) (hP : va_P G.1 zcl (zws G ad h ++ [(q, zce G (va_up ad h.2.2.length q) (zh_new c n h) h.2.2.length (c, n))]) H1) (hD : va_D A (zws G ad h ++ [(q, zce G (va_up ad h.2.2.length q) (zh_new c n h) h.2.2.length (c, n))])) (hS : va_S A s.heap H1 locs) : zr G A s R cC cS (va_up ad h.2.2.length q) (zh_new c n h) H1 locs (cells + 1) (slots + n) := by
  obtain ⟨hP0, hD0, hS0, hw, hstr, hc1, hc2, hc3, hc4, hag, hn0⟩ := hr
  have e1 : (zh_new c n h).2.2.length = h.2.2.length + 1 := by show (h.2.2 ++ [(c, n)]).length = _; rw [List.length_append]; rfl
  have e2 : zsum (zh_new c n h).2.2 = zsum h.2.2 + n := by show zsum (h.2.2 ++ [(c, n)]) = _; rw [zsum_app]; unfold zsum; simp
  have hlt : h.2.2.length < 1000000 := by rw [e1] at hroom; omega
  refine ⟨by rw [zws_new hw hlt]; exact hP, by rw [zws_new hw hlt]; exact hD, hS, zwf_new hw, fun k hk => ?_, by rw [e1]; omega, by rw [e2]; omega, hroom.1, hroom.2, fun a ha => ?_, by rw [e1]; omega⟩
  · rw [zid_up hlt (Or.inr ⟨by omega, by omega⟩)]
    exact hstr k hk
  · rw [zid_up hlt (Or.inl (by omega))]
    exact hag a ha
theorem zlv_up {ad ad2 : Nat → Nat} {ls : Array Slot} (hl : lv_has ls nL (zlv ad L ts)) (hk : zok h L ts st) (ha : ∀ a, zid h a → ad2 a = ad a) : lv_has ls nL (zlv ad2 L ts) := by
  refine zlv_sub hl fun q hq => ?_
  obtain ⟨b, hb, he⟩ := zlv_mem.mp hq
  refine zlv_mem.mpr ⟨b, hb, ?_⟩
  rw [he]
  cases b with
  | false => rfl
  | true =>
    show va_rf ((L.2 q.1).map ad2) = va_rf ((L.2 q.1).map ad)
    cases hL : L.2 q.1 with
    | none => rfl
    | some a => show va_rf (some (ad2 a)) = va_rf (some (ad a)); rw [ha a (hk.1 q.1 a hb hL)]
theorem zst_up {ad ad2 : Nat → Nat} (hk : zok h L ts st) (ha : ∀ a, zid h a → ad2 a = ad a) : st.map (zt ad2) = st.map (zt ad) := by
  apply List.map_congr_left
  intro v hv
  cases v with
  | ref a => show Value.ref (ad2 a) = Value.ref (ad a); rw [ha a (hk.2 a hv)]
  | _ => rfl
theorem zok_up {h2 : Hp} (hle : zle h h2) (hk : zok h L ts st) : zok h2 L ts st := ⟨fun i a h1 h3 => zid_le hle (hk.1 i a h1 h3), fun a ha => zid_le hle (hk.2 a ha)⟩
def zsm (t : FieldType) : Bool := match t with
  | .long => false
  | .float => false
  | .double => false
  | _ => true
theorem zdefv {c k : Nat} (hs : zsm (ztyOf c k) = true) : defaultValue (ztyOf c k) = (if zfr c k = true then .null else .int 0) := by
  unfold zfr
  cases ht : ztyOf c k <;> rw [ht] at hs <;> first | (cases hs; done) | rfl
theorem zfv_new {ad : Nat → Nat} {c n k : Nat} : zfv ad (zh_new c n h) h.2.2.length c k = (if zfr c k = true then .null else .int 0) := by
  unfold zfv
  have e1 : (zh_new c n h).1 h.2.2.length k = 0 := by show zrow h.1 h.2.2.length (fun _ => 0) h.2.2.length k = 0; unfold zrow; rw [if_pos rfl]
  have e2 : (zh_new c n h).2.1 h.2.2.length k = none := by show (if h.2.2.length = h.2.2.length then (fun _ => none) else h.2.1 h.2.2.length) k = none; rw [if_pos rfl]
  rw [e1, e2]
  rfl
/-- new C -/
theorem zw_new {ix c N : Nat} {C : String} {T : u_T} (hX : zx own cc nL d ini Z) (hc : zcls c C T N) (hsm : ∀ k, k < N → zsm (ztyOf c k) = true) (hlk : Cond.classLink own ix C ∈ lw_all) (hin : Cond.instantiable C N ∈ lw_all) (hit : Cond.initialized C ∈ lw_all) (hd : decode cc pc = .ok (.new ix, 3)) (hcap : zcap Z (zh_new c N h)) (kk : zw Z nL (pc + 3) L ts (.ref h.2.2.length :: st) (zh_new c N h)) : zw Z nL pc L ts st h := by
  obtain ⟨p, l, e, R, s, m, args, below, meth, co, Q, A, G, cC, cS⟩ := Z
  intro ad H locs ls cells slots hr hlv hok
  have hcC : cC ≤ 1000000 := hX.2.2.2.2.2.2.2.2.2.2.2.2.1
  have e1 : (zh_new c N h).2.2.length = h.2.2.length + 1 := by show (h.2.2 ++ [(c, N)]).length = _; rw [List.length_append]; rfl
  have e2 : zsum (zh_new c N h).2.2 = zsum h.2.2 + N := by show zsum (h.2.2 ++ [(c, N)]) = _; rw [zsum_app]; unfold zsum; simp
  have hcap1 : (zh_new c N h).2.2.length ≤ cC := hcap.1
  have hcap2 : zsum (zh_new c N h).2.2 ≤ cS := hcap.2
  have hlt : h.2.2.length < 1000000 := by omega
  have hr6 := hr.2.2.2.2.2.1
  have hr7 := hr.2.2.2.2.2.2.1
  refine va_new (D := G.1) (ci := c) (C := C) (T := T) (N := N) (fs := (List.range N).map (fun k => if zfr c k = true then .null else .int 0)) hX.1 hX.2.1 hX.2.2.2.2.1 hc.2.2.1 (ztyOf c) hc.2.2.2 hX.2.2.2.1 (hX.2.2.2.2.1 _ hlk) (hX.2.2.2.2.1 _ hin) (hX.2.2.2.2.1 _ hit) hX.2.2.2.2.2.1 hr.1 hr.2.1 hr.2.2.1 hX.2.2.2.2.2.2.2.2.2.1 hc.1 (fun j hj => ?_) (by omega) (by omega) hd fun q H1 hP hD hS => ?_
  · rw [zdefv (hsm j hj)]
    show _ = List.getD _ j Value.null
    rw [List.getD_eq_getElem?_getD, List.getElem?_map, List.getElem?_range hj]
    rfl
  · have ee : (Sum.inr (c, (List.range N).map (fun k => if zfr c k = true then Value.null else .int 0)) : va_E) = zce G (va_up ad h.2.2.length q) (zh_new c N h) h.2.2.length (c, N) := by
      rw [zce_obj hc.2.1]
      congr 2
      unfold zfs
      apply List.map_congr_left
      intro k _
      exact zfv_new.symm
    rw [ee] at hP hD
    have hup : ∀ a, zid h a → va_up ad h.2.2.length q a = ad a := fun a ha => zid_up hlt ha
    have k1 := kk (va_up ad h.2.2.length q) H1 locs ls (cells + 1) (slots + N) (zr_new1 hr hcC ⟨hcap1, hcap2⟩ hP hD hS) (zlv_up hlv hok hup) (zok_r (r := some h.2.2.length) (zok_up ⟨[(c, N)], rfl⟩ hok) (fun a ha => by cases ha; exact Or.inl (by rw [e1]; omega)))
    have e3 : (Value.ref h.2.2.length :: st).map (zt (va_up ad h.2.2.length q)) = .ref q :: st.map (zt ad) := by
      rw [List.map_cons, zst_up hok hup]
      show Value.ref (va_up ad h.2.2.length q h.2.2.length) :: _ = _
      have : va_up ad h.2.2.length q h.2.2.length = q := by unfold va_up; rw [if_pos rfl]
      rw [this]
    rw [e3] at k1
    exact k1
theorem zra_int {s : State} {a b : ClassId} (h1 : va_RA s a .int) (h2 : va_RA s b .int) : a = b := Option.some.inj (h1.symm.trans h2)
theorem zra_byte {s : State} {a b : ClassId} (h1 : va_RA s a .byte) (h2 : va_RA s b .byte) : a = b := Option.some.inj (h1.symm.trans h2)
theorem zra_bool {s : State} {a b : ClassId} (h1 : va_RA s a .boolean) (h2 : va_RA s b .boolean) : a = b := Option.some.inj (h1.symm.trans h2)
theorem zra_obj {s : State} {a b : ClassId} {C : String} (h1 : va_RA s a (.object C)) (h2 : va_RA s b (.object C)) : a = b := by
  obtain ⟨_, _, _, _, _, e1⟩ := h1
  obtain ⟨_, _, _, _, _, e2⟩ := h2
  exact Option.some.inj (e1.symm.trans e2)
/-- what stands behind a new array -/
theorem zw_newk {kd N : Nat} {G : ZG} {A : Nat → Prop} {p : Program} {l : Launch} {e : Env} {R : Room} {s : State} {m : MethodId} {args : Array Value} {below : List Frame} {meth : Method} {co : Code} {Q : State → Prop} {cC cS : Nat} {ad : Nat → Nat} {H H1 : Heap} {locs : List Loc} {ls : Array Slot} {cells slots q pc2 : Nat} {E : va_E} (hcC : cC ≤ 1000000) (hr : zr G A s R cC cS ad h H locs cells slots) (hlv : lv_has ls nL (zlv ad L ts)) (hok : zok h L ts st) (hcap1 : (zh_new kd N h).2.2.length ≤ cC) (hcap2 : zsum (zh_new kd N h).2.2 ≤ cS)
    (ee : E = zce G (va_up ad h.2.2.length q) (zh_new kd N h) h.2.2.length (kd, N)) (hP : va_P G.1 zcl (zws G ad h ++ [(q, E)]) H1) (hD : va_D A (zws G ad h ++ [(q, E)])) (hS : va_S A s.heap H1 locs)
    (kk : zw (p, l, e, R, s, m, args, below, meth, co, Q, A, G, cC, cS) nL pc2 L ts (.ref h.2.2.length :: st) (zh_new kd N h)) : W p l e R s m args below meth co H1 locs (cells + 1) (slots + N) Q (F0 m pc2 ls (.ref q :: st.map (zt ad))) := by
  have e1 : (zh_new kd N h).2.2.length = h.2.2.length + 1 := by show (h.2.2 ++ [(kd, N)]).length = _; rw [List.length_append]; rfl
  have hlt : h.2.2.length < 1000000 := by omega
  subst ee
  have hup : ∀ a, zid h a → va_up ad h.2.2.length q a = ad a := fun a ha => zid_up hlt ha
  have k1 := kk (va_up ad h.2.2.length q) H1 locs ls (cells + 1) (slots + N) (zr_new1 hr hcC ⟨hcap1, hcap2⟩ hP hD hS) (zlv_up hlv hok hup) (zok_r (r := some h.2.2.length) (zok_up ⟨[(kd, N)], rfl⟩ hok) (fun a ha => by cases ha; exact Or.inl (by rw [e1]; omega)))
  have e3 : (Value.ref h.2.2.length :: st).map (zt (va_up ad h.2.2.length q)) = .ref q :: st.map (zt ad) := by
    rw [List.map_cons, zst_up hok hup]
    show Value.ref (va_up ad h.2.2.length q h.2.2.length) :: _ = _
    have : va_up ad h.2.2.length q h.2.2.length = q := by unfold va_up; rw [if_pos rfl]
    rw [this]
  rw [e3] at k1
  exact k1
theorem zrow_on {f : Nat → Nat → Int32} {i : Nat} {r : Nat → Int32} : zrow f i r i = r := by unfold zrow; rw [if_pos rfl]
theorem zrow_off {f : Nat → Nat → Int32} {i j : Nat} {r : Nat → Int32} (hj : j ≠ i) : zrow f i r j = f j := by unfold zrow; rw [if_neg hj]
theorem zw_newI {N : Nat} {n : Int32} (hX : zx own cc nL d ini Z) (hn : ¬ n < 0) (hN : n.toNatClampNeg = N) (hb : N ≤ 100000) (hw : Cond.arrayClass .int ∈ lw_all) (hd : decode cc pc = .ok (.newarray .int, 2)) (hcap : zcap Z (zh_new 100 N h)) (kk : zw Z nL (pc + 2) L ts (.ref h.2.2.length :: st) (zh_new 100 N h)) : zw Z nL pc L ts (.int n :: st) h := by
  obtain ⟨p, l, e, R, s, m, args, below, meth, co, Q, A, G, cC, cS⟩ := Z
  intro ad H locs ls cells slots hr hlv hok
  have e1 : (zh_new 100 N h).2.2.length = h.2.2.length + 1 := by show (h.2.2 ++ [(100, N)]).length = _; rw [List.length_append]; rfl
  have e2 : zsum (zh_new 100 N h).2.2 = zsum h.2.2 + N := by show zsum (h.2.2 ++ [(100, N)]) = _; rw [zsum_app]; unfold zsum; simp
  have hcap1 : (zh_new 100 N h).2.2.length ≤ cC := hcap.1
  have hcap2 : zsum (zh_new 100 N h).2.2 ≤ cS := hcap.2
  have hr6 := hr.2.2.2.2.2.1
  have hr7 := hr.2.2.2.2.2.2.1
  refine va_newa (D := G.1) (atype := .int) (ty := .int) (a0 := (N, .inl (fun _ => 0))) hX.1 hX.2.1 (hX.2.2.2.2.1 _ hw) rfl hX.2.2.2.2.2.1 hr.1 hr.2.1 hr.2.2.1 hX.2.2.2.2.2.2.2.2.2.1 (fun cA => rfl) hn hN (by show N * 4 ≤ 536870912; omega) (by omega) (by omega) hd fun q cA H1 hK hP hD hS => ?_
  have ec : cA = G.2.1 0 := zra_int (hK.2 5 _ rfl).2 (hX.2.2.2.2.2.1.2 0 _ rfl).2
  subst ec
  exact zw_newk hX.2.2.2.2.2.2.2.2.2.2.2.2.1 hr hlv (zok_tl hok) hcap1 hcap2 (by rw [zce_int]; show _ = Sum.inl (G.2.1 0, N, Sum.inl (zrow h.1 h.2.2.length (fun _ => 0) h.2.2.length)); rw [zrow_on]) hP hD hS kk
theorem zw_newB {N : Nat} {n : Int32} (hX : zx own cc nL d ini Z) (hn : ¬ n < 0) (hN : n.toNatClampNeg = N) (hb : N ≤ 100000) (hw : Cond.arrayClass .byte ∈ lw_all) (hd : decode cc pc = .ok (.newarray .byte, 2)) (hcap : zcap Z (zh_new 101 N h)) (kk : zw Z nL (pc + 2) L ts (.ref h.2.2.length :: st) (zh_new 101 N h)) : zw Z nL pc L ts (.int n :: st) h := by
  obtain ⟨p, l, e, R, s, m, args, below, meth, co, Q, A, G, cC, cS⟩ := Z
  intro ad H locs ls cells slots hr hlv hok
  have e1 : (zh_new 101 N h).2.2.length = h.2.2.length + 1 := by show (h.2.2 ++ [(101, N)]).length = _; rw [List.length_append]; rfl
  have e2 : zsum (zh_new 101 N h).2.2 = zsum h.2.2 + N := by show zsum (h.2.2 ++ [(101, N)]) = _; rw [zsum_app]; unfold zsum; simp
  have hcap1 : (zh_new 101 N h).2.2.length ≤ cC := hcap.1
  have hcap2 : zsum (zh_new 101 N h).2.2 ≤ cS := hcap.2
  have hr6 := hr.2.2.2.2.2.1
  have hr7 := hr.2.2.2.2.2.2.1
  refine va_newa (D := G.1) (atype := .byte) (ty := .byte) (a0 := (N, .inl (fun _ => 0))) hX.1 hX.2.1 (hX.2.2.2.2.1 _ hw) rfl hX.2.2.2.2.2.1 hr.1 hr.2.1 hr.2.2.1 hX.2.2.2.2.2.2.2.2.2.1 (fun cA => rfl) hn hN (by show N * 1 ≤ 536870912; omega) (by omega) (by omega) hd fun q cA H1 hK hP hD hS => ?_
  have ec : cA = G.2.1 1 := zra_byte (hK.2 5 _ rfl).2 (hX.2.2.2.2.2.1.2 1 _ rfl).2
  subst ec
  exact zw_newk hX.2.2.2.2.2.2.2.2.2.2.2.2.1 hr hlv (zok_tl hok) hcap1 hcap2 (by rw [zce_byte]; show _ = Sum.inl (G.2.1 1, N, Sum.inl (zrow h.1 h.2.2.length (fun _ => 0) h.2.2.length)); rw [zrow_on]) hP hD hS kk
theorem zw_newZ {N : Nat} {n : Int32} (hX : zx own cc nL d ini Z) (hn : ¬ n < 0) (hN : n.toNatClampNeg = N) (hb : N ≤ 100000) (hw : Cond.arrayClass .boolean ∈ lw_all) (hd : decode cc pc = .ok (.newarray .boolean, 2)) (hcap : zcap Z (zh_new 102 N h)) (kk : zw Z nL (pc + 2) L ts (.ref h.2.2.length :: st) (zh_new 102 N h)) : zw Z nL pc L ts (.int n :: st) h := by
  obtain ⟨p, l, e, R, s, m, args, below, meth, co, Q, A, G, cC, cS⟩ := Z
  intro ad H locs ls cells slots hr hlv hok
  have e1 : (zh_new 102 N h).2.2.length = h.2.2.length + 1 := by show (h.2.2 ++ [(102, N)]).length = _; rw [List.length_append]; rfl
  have e2 : zsum (zh_new 102 N h).2.2 = zsum h.2.2 + N := by show zsum (h.2.2 ++ [(102, N)]) = _; rw [zsum_app]; unfold zsum; simp
  have hcap1 : (zh_new 102 N h).2.2.length ≤ cC := hcap.1
  have hcap2 : zsum (zh_new 102 N h).2.2 ≤ cS := hcap.2
  have hr6 := hr.2.2.2.2.2.1
  have hr7 := hr.2.2.2.2.2.2.1
  refine va_newa (D := G.1) (atype := .boolean) (ty := .boolean) (a0 := (N, .inl (fun _ => 0))) hX.1 hX.2.1 (hX.2.2.2.2.1 _ hw) rfl hX.2.2.2.2.2.1 hr.1 hr.2.1 hr.2.2.1 hX.2.2.2.2.2.2.2.2.2.1 (fun cA => rfl) hn hN (by show N * 1 ≤ 536870912; omega) (by omega) (by omega) hd fun q cA H1 hK hP hD hS => ?_
  have ec : cA = G.2.1 2 := zra_bool (hK.2 5 _ rfl).2 (hX.2.2.2.2.2.1.2 2 _ rfl).2
  subst ec
  exact zw_newk hX.2.2.2.2.2.2.2.2.2.2.2.2.1 hr hlv (zok_tl hok) hcap1 hcap2 (by rw [zce_bool]; show _ = Sum.inl (G.2.1 2, N, Sum.inl (zrow h.1 h.2.2.length (fun _ => 0) h.2.2.length)); rw [zrow_on]) hP hD hS kk
theorem zw_newT {N ix : Nat} {n : Int32} (hX : zx own cc nL d ini Z) (hn : ¬ n < 0) (hN : n.toNatClampNeg = N) (hb : N ≤ 100000) (hw : Cond.classLink own ix RX2 ∈ lw_all) (hd : decode cc pc = .ok (.anewarray ix, 3)) (hcap : zcap Z (zh_new 103 N h)) (kk : zw Z nL (pc + 3) L ts (.ref h.2.2.length :: st) (zh_new 103 N h)) : zw Z nL pc L ts (.int n :: st) h := by
  obtain ⟨p, l, e, R, s, m, args, below, meth, co, Q, A, G, cC, cS⟩ := Z
  intro ad H locs ls cells slots hr hlv hok
  have e1 : (zh_new 103 N h).2.2.length = h.2.2.length + 1 := by show (h.2.2 ++ [(103, N)]).length = _; rw [List.length_append]; rfl
  have e2 : zsum (zh_new 103 N h).2.2 = zsum h.2.2 + N := by show zsum (h.2.2 ++ [(103, N)]) = _; rw [zsum_app]; unfold zsum; simp
  have hcap1 : (zh_new 103 N h).2.2.length ≤ cC := hcap.1
  have hcap2 : zsum (zh_new 103 N h).2.2 ≤ cS := hcap.2
  have hr6 := hr.2.2.2.2.2.1
  have hr7 := hr.2.2.2.2.2.2.1
  refine va_newq (D := G.1) (C := RX2) hX.1 hX.2.1 hX.2.2.2.1 (hX.2.2.2.2.1 _ hw) hX.2.2.2.2.2.2.2.1.2.2.1 hX.2.2.2.2.2.1 hr.1 hr.2.1 hr.2.2.1 hX.2.2.2.2.2.2.2.2.2.1 hn hN (by omega) (by omega) (by omega) hd fun q cA H1 hK hP hD hS => ?_
  have ec : cA = G.2.1 3 := zra_obj (hK.2 5 _ rfl).2 (hX.2.2.2.2.2.1.2 3 _ rfl).2
  subst ec
  exact zw_newk hX.2.2.2.2.2.2.2.2.2.2.2.2.1 hr hlv (zok_tl hok) hcap1 hcap2 (by
    rw [zce_ref]
    have e4 : (fun j => ((zh_new 103 N h).2.1 h.2.2.length j).map (va_up ad h.2.2.length q)) = (fun _ => none) := by
      funext j
      show Option.map _ ((if h.2.2.length = h.2.2.length then (fun _ => none) else h.2.1 h.2.2.length) j) = none
      rw [if_pos rfl]
      rfl
    rw [e4]) hP hD hS kk
/-- operations of two ints -/
def zop (own : String) (cc : ByteArray) (nL d : Nat) (ini : Bool) (pc n : Nat) (f : Int32 → Int32 → Int32) : Prop := ∀ Z, zx own cc nL d ini Z → ∀ L ts st h x y, zwt st ≤ 8 → zw Z nL (pc + n) L ts (.int (f x y) :: st) h → zw Z nL pc L ts (.int y :: .int x :: st) h
/-- the same, the second not 0 -/
def zopd (own : String) (cc : ByteArray) (nL d : Nat) (ini : Bool) (pc n : Nat) (f : Int32 → Int32 → Int32) : Prop := ∀ Z, zx own cc nL d ini Z → ∀ L ts st h x y, ¬ y = 0 → zw Z nL (pc + n) L ts (.int (f x y) :: st) h → zw Z nL pc L ts (.int y :: .int x :: st) h
def zop1 (own : String) (cc : ByteArray) (nL d : Nat) (ini : Bool) (pc n : Nat) (f : Int32 → Int32) : Prop := ∀ Z, zx own cc nL d ini Z → ∀ L ts st h x, zw Z nL (pc + n) L ts (.int (f x) :: st) h → zw Z nL pc L ts (.int x :: st) h
theorem zok_2 {x y v : Int32} (hk : zok h L ts (.int y :: .int x :: st)) : zok h L ts (.int v :: st) := zok_i (zok_tl (zok_tl hk))
theorem zop_iadd (hd : decode cc pc = .ok (.iadd, 1)) : zop own cc nL d ini pc 1 (fun x y => x + y) := by
  intro Z hX L ts st h x y _ kk
  obtain ⟨p, l, e, R, s, m, args, below, meth, co, Q, A, G, cC, cS⟩ := Z
  intro ad H locs ls cells slots hr hlv hok
  exact lv_iadd hX.1 hX.2.1 hd (kk ad H locs ls cells slots hr hlv (zok_2 hok))
theorem zop_isub (hd : decode cc pc = .ok (.isub, 1)) : zop own cc nL d ini pc 1 (fun x y => x - y) := by
  intro Z hX L ts st h x y _ kk
  obtain ⟨p, l, e, R, s, m, args, below, meth, co, Q, A, G, cC, cS⟩ := Z
  intro ad H locs ls cells slots hr hlv hok
  exact lv_isub hX.1 hX.2.1 hd (kk ad H locs ls cells slots hr hlv (zok_2 hok))
theorem zop_imul (hd : decode cc pc = .ok (.imul, 1)) : zop own cc nL d ini pc 1 (fun x y => x * y) := by
  intro Z hX L ts st h x y _ kk
  obtain ⟨p, l, e, R, s, m, args, below, meth, co, Q, A, G, cC, cS⟩ := Z
  intro ad H locs ls cells slots hr hlv hok
  exact lv_imul hX.1 hX.2.1 hd (kk ad H locs ls cells slots hr hlv (zok_2 hok))
theorem zop_iand (hd : decode cc pc = .ok (.iand, 1)) : zop own cc nL d ini pc 1 (fun x y => x &&& y) := by
  intro Z hX L ts st h x y _ kk
  obtain ⟨p, l, e, R, s, m, args, below, meth, co, Q, A, G, cC, cS⟩ := Z
  intro ad H locs ls cells slots hr hlv hok
  exact lv_iand hX.1 hX.2.1 hd (kk ad H locs ls cells slots hr hlv (zok_2 hok))
theorem zop_ior (hd : decode cc pc = .ok (.ior, 1)) : zop own cc nL d ini pc 1 (fun x y => x ||| y) := by
  intro Z hX L ts st h x y _ kk
  obtain ⟨p, l, e, R, s, m, args, below, meth, co, Q, A, G, cC, cS⟩ := Z
  intro ad H locs ls cells slots hr hlv hok
  exact lv_ior hX.1 hX.2.1 hd (kk ad H locs ls cells slots hr hlv (zok_2 hok))
theorem zop_ixor (hd : decode cc pc = .ok (.ixor, 1)) : zop own cc nL d ini pc 1 (fun x y => x ^^^ y) := by
  intro Z hX L ts st h x y _ kk
  obtain ⟨p, l, e, R, s, m, args, below, meth, co, Q, A, G, cC, cS⟩ := Z
  intro ad H locs ls cells slots hr hlv hok
  exact lv_ixor hX.1 hX.2.1 hd (kk ad H locs ls cells slots hr hlv (zok_2 hok))
theorem zop_ishl (hd : decode cc pc = .ok (.ishl, 1)) : zop own cc nL d ini pc 1 (fun x y => x <<< (y &&& 31)) := by
  intro Z hX L ts st h x y _ kk
  obtain ⟨p, l, e, R, s, m, args, below, meth, co, Q, A, G, cC, cS⟩ := Z
  intro ad H locs ls cells slots hr hlv hok
  exact lv_ishl hX.1 hX.2.1 hd (kk ad H locs ls cells slots hr hlv (zok_2 hok))
theorem zop_ishr (hd : decode cc pc = .ok (.ishr, 1)) : zop own cc nL d ini pc 1 (fun x y => x >>> (y &&& 31)) := by
  intro Z hX L ts st h x y _ kk
  obtain ⟨p, l, e, R, s, m, args, below, meth, co, Q, A, G, cC, cS⟩ := Z
  intro ad H locs ls cells slots hr hlv hok
  exact lv_ishr hX.1 hX.2.1 hd (kk ad H locs ls cells slots hr hlv (zok_2 hok))
theorem zop_iushr (hd : decode cc pc = .ok (.iushr, 1)) : zop own cc nL d ini pc 1 (fun x y => (x.toUInt32 >>> (y.toUInt32 &&& Int32.toUInt32 31)).toInt32) := by
  intro Z hX L ts st h x y _ kk
  obtain ⟨p, l, e, R, s, m, args, below, meth, co, Q, A, G, cC, cS⟩ := Z
  intro ad H locs ls cells slots hr hlv hok
  exact lv_iushr hX.1 hX.2.1 hd rfl (kk ad H locs ls cells slots hr hlv (zok_2 hok))
def zmax (x y : Int32) : Int32 := if x < y then y else x
def zmin (x y : Int32) : Int32 := if y < x then y else x
theorem zop_max {ix : Nat} (h1 : 1 ≤ d) (hl : Cond.methodLink own ix Lib.Math.max.name ∈ lw_all) (hs : Cond.static Lib.Math.max.name ∈ lw_all) (hi : Cond.initialized "java/lang/Math" ∈ lw_all) (hco : Cond.code Lib.Math.max.name Lib.Math.max.code 2 (some .int) ∈ lw_all) (hd : decode cc pc = .ok (.invokestatic ix, 3)) : zop own cc nL d ini pc 3 zmax := by
  intro Z hX L ts st h x y hwt kk
  obtain ⟨p, l, e, R, s, m, args, below, meth, co, Q, A, G, cC, cS⟩ := Z
  intro ad H locs ls cells slots hr hlv hok
  have hw := hX.2.2.2.2.1
  have r1 : d ≤ R.frames := hX.2.2.2.2.2.2.2.2.2.2.1
  have r2 : 64 * d ≤ R.locals := hX.2.2.2.2.2.2.2.2.2.2.2.1
  have r3 := hr.2.2.2.2.2.1
  have r4 := hr.2.2.2.2.2.2.1
  have r5 := hr.2.2.2.2.2.2.2.1
  have r6 := hr.2.2.2.2.2.2.2.2.1
  refine va_mmax hX.1 hX.2.1 (hX.2.2.1.trans hlv.1.symm) hX.2.2.2.1 (hw _ hl) (hw _ hs) (hw _ hi) (hw _ hco) (by omega) (by rw [zwt_t]; omega) (by omega) (by omega) hd ?_
  exact kk ad H locs ls cells slots hr hlv (zok_2 hok)
theorem zop_min {ix : Nat} (h1 : 1 ≤ d) (hl : Cond.methodLink own ix Lib.Math.min.name ∈ lw_all) (hs : Cond.static Lib.Math.min.name ∈ lw_all) (hi : Cond.initialized "java/lang/Math" ∈ lw_all) (hco : Cond.code Lib.Math.min.name Lib.Math.min.code 2 (some .int) ∈ lw_all) (hd : decode cc pc = .ok (.invokestatic ix, 3)) : zop own cc nL d ini pc 3 zmin := by
  intro Z hX L ts st h x y hwt kk
  obtain ⟨p, l, e, R, s, m, args, below, meth, co, Q, A, G, cC, cS⟩ := Z
  intro ad H locs ls cells slots hr hlv hok
  have hw := hX.2.2.2.2.1
  have r1 : d ≤ R.frames := hX.2.2.2.2.2.2.2.2.2.2.1
  have r2 : 64 * d ≤ R.locals := hX.2.2.2.2.2.2.2.2.2.2.2.1
  have r3 := hr.2.2.2.2.2.1
  have r4 := hr.2.2.2.2.2.2.1
  have r5 := hr.2.2.2.2.2.2.2.1
  have r6 := hr.2.2.2.2.2.2.2.2.1
  refine va_mmin hX.1 hX.2.1 (hX.2.2.1.trans hlv.1.symm) hX.2.2.2.1 (hw _ hl) (hw _ hs) (hw _ hi) (hw _ hco) (by omega) (by rw [zwt_t]; omega) (by omega) (by omega) hd ?_
  exact kk ad H locs ls cells slots hr hlv (zok_2 hok)
theorem zopd_idiv (hd : decode cc pc = .ok (.idiv, 1)) : zopd own cc nL d ini pc 1 (fun x y => x / y) := by
  intro Z hX L ts st h x y hy kk
  obtain ⟨p, l, e, R, s, m, args, below, meth, co, Q, A, G, cC, cS⟩ := Z
  intro ad H locs ls cells slots hr hlv hok
  exact lv_idiv hX.1 hX.2.1 hd hy (kk ad H locs ls cells slots hr hlv (zok_2 hok))
theorem zopd_irem (hd : decode cc pc = .ok (.irem, 1)) : zopd own cc nL d ini pc 1 (fun x y => x - x / y * y) := by
  intro Z hX L ts st h x y hy kk
  obtain ⟨p, l, e, R, s, m, args, below, meth, co, Q, A, G, cC, cS⟩ := Z
  intro ad H locs ls cells slots hr hlv hok
  exact lv_irem hX.1 hX.2.1 hd hy (kk ad H locs ls cells slots hr hlv (zok_2 hok))
theorem zop1_ineg (hd : decode cc pc = .ok (.ineg, 1)) : zop1 own cc nL d ini pc 1 (fun x => -x) := by
  intro Z hX L ts st h x kk
  obtain ⟨p, l, e, R, s, m, args, below, meth, co, Q, A, G, cC, cS⟩ := Z
  intro ad H locs ls cells slots hr hlv hok
  exact lv_ineg hX.1 hX.2.1 hd (kk ad H locs ls cells slots hr hlv (zok_i (zok_tl hok)))
theorem zop1_i2b (hd : decode cc pc = .ok (.i2b, 1)) : zop1 own cc nL d ini pc 1 (fun x => x.toInt8.toInt32) := by
  intro Z hX L ts st h x kk
  obtain ⟨p, l, e, R, s, m, args, below, meth, co, Q, A, G, cC, cS⟩ := Z
  intro ad H locs ls cells slots hr hlv hok
  exact lv_i2b hX.1 hX.2.1 hd rfl (kk ad H locs ls cells slots hr hlv (zok_i (zok_tl hok)))
theorem zop1_i2s (hd : decode cc pc = .ok (.i2s, 1)) : zop1 own cc nL d ini pc 1 (fun x => x.toInt16.toInt32) := by
  intro Z hX L ts st h x kk
  obtain ⟨p, l, e, R, s, m, args, below, meth, co, Q, A, G, cC, cS⟩ := Z
  intro ad H locs ls cells slots hr hlv hok
  exact lv_i2s hX.1 hX.2.1 hd rfl (kk ad H locs ls cells slots hr hlv (zok_i (zok_tl hok)))
theorem zop1_i2c (hd : decode cc pc = .ok (.i2c, 1)) : zop1 own cc nL d ini pc 1 (fun x => (x.toUInt32 % 65536).toInt32) := by
  intro Z hX L ts st h x kk
  obtain ⟨p, l, e, R, s, m, args, below, meth, co, Q, A, G, cC, cS⟩ := Z
  intro ad H locs ls cells slots hr hlv hok
  exact lv_i2c hX.1 hX.2.1 hd rfl (kk ad H locs ls cells slots hr hlv (zok_i (zok_tl hok)))
end ZMORE
