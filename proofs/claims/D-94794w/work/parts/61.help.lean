/-! LONG ARRAYS; the law's helpers: x.of(..) and its like, an exception caught. -/
set_option maxRecDepth 100000
theorem zce_long {G : ZG} {ad : Nat → Nat} {h : Hp} {i n : Nat} : zce G ad h i (104, n) = .inl (G.2.1 4, n, .inr (.inl (fun j => (h.1 i j).toInt64))) := rfl
section ZLONG
variable {own : String} {cc : ByteArray} {nL d pc : Nat} {ini : Bool} {Z : ZK} {L : Fr} {ts : List Bool} {st : List Value} {h : Hp}
theorem zupL {f : Nat → Int32} {k : Nat} {x : Int32} : vp_updL (fun j => (f j).toInt64) k x.toInt64 = fun j => (upd f k x j).toInt64 := by
  funext j
  unfold vp_updL upd
  by_cases e : j = k
  · rw [if_pos e, if_pos e]
  · rw [if_neg e, if_neg e]
theorem zw_last {a n : Nat} {i x : Int32} (hX : zx own cc nL d ini Z) (hd : decode cc pc = .ok (.lastore, 1)) (ha : h.2.2[a]? = some (104, n)) (hi : zinb i n = true) (kk : zw Z nL (pc + 1) L ts st (zu h.1 a i.toNatClampNeg x, h.2)) : zw Z nL pc L ts (.long x.toInt64 :: .int i :: .ref a :: st) h := by
  obtain ⟨p, l, e, R, s, m, args, below, meth, co, Q, A, G, cC, cS⟩ := Z
  intro ad H locs ls cells slots hr hlv hok
  refine va_last (D := G.1) (cA := G.2.1 4) (n := n) (f := fun j => (h.1 a j).toInt64) hX.1 hX.2.1 hX.2.2.2.2.2.1 hr.1 hr.2.1 hr.2.2.1 a 4 (zws_at ha) rfl (zinb_in hi) hd fun H1 locs1 hP hD hS => ?_
  have ew : (zws G ad h).set a (ad a, .inl (G.2.1 4, n, .inr (.inl (vp_updL (fun j => (h.1 a j).toInt64) i.toNatClampNeg x.toInt64)))) = zws G ad (zu h.1 a i.toNatClampNeg x, h.2) := by
    rw [← zws_up (h := h) (h2 := (zu h.1 a i.toNatClampNeg x, h.2)) rfl ha (fun j hj => ⟨zu_off hj, rfl⟩), zce_long, zupL]
    show _ = List.set _ a (ad a, (Sum.inl (G.2.1 4, n, Sum.inr (Sum.inl (fun j => (zu h.1 a i.toNatClampNeg x a j).toInt64))) : va_E))
    rw [zu_on]
  rw [ew] at hP hD
  exact kk ad H1 locs1 ls cells slots (zr_st hr rfl (zwf_u hr.2.2.2.1) hP hD hS) hlv (zok_K rfl (zok_tl (zok_tl (zok_tl hok))))
theorem zw_lald {a n : Nat} {i : Int32} (hX : zx own cc nL d ini Z) (hd : decode cc pc = .ok (.laload, 1)) (ha : h.2.2[a]? = some (104, n)) (hi : zinb i n = true) (kk : zw Z nL (pc + 1) L ts (.long (h.1 a i.toNatClampNeg).toInt64 :: st) h) : zw Z nL pc L ts (.int i :: .ref a :: st) h := by
  obtain ⟨p, l, e, R, s, m, args, below, meth, co, Q, A, G, cC, cS⟩ := Z
  intro ad H locs ls cells slots hr hlv hok
  exact va_lald (D := G.1) (cA := G.2.1 4) (n := n) (f := fun j => (h.1 a j).toInt64) hX.1 hX.2.1 hX.2.2.2.2.2.1 hr.1 a 4 (zws_at ha) rfl (zinb_in hi) hd (kk ad H locs ls cells slots hr hlv (zok_l (zok_tl (zok_tl hok))))
end ZLONG
/-- a helper's meaning: body of S's method, its arguments, where the answer goes -/
def zhm (bS : ZS) (as : List Value) (x o : Nat) (h : Hp) : Option (Int32 × Hp) := if h.2.2[x]? = some (0, 52) then (bS (zf as) h).bind fun r => if r.1 = 3 then (if r.2.2.2.2[o]? = some (104, 1) then some (0, (zu r.2.2.1 o 0 (r.2.1.1 999), r.2.2.2)) else none) else if r.1 = 4 then some (1, r.2.2) else none else none
theorem zhm_key {bS : ZS} {as : List Value} {x o : Nat} {h h2 : Hp} {v : Int32} (e : zhm bS as x o h = some (v, h2)) : h.2.2[x]? = some (0, 52) ∧ ∃ r, bS (zf as) h = some r ∧ ((r.1 = 3 ∧ r.2.2.2.2[o]? = some (104, 1) ∧ v = 0 ∧ h2 = (zu r.2.2.1 o 0 (r.2.1.1 999), r.2.2.2)) ∨ (r.1 = 4 ∧ v = 1 ∧ h2 = r.2.2)) := by
  unfold zhm at e
  by_cases h0 : h.2.2[x]? = some (0, 52)
  · rw [if_pos h0] at e
    obtain ⟨r, q1, q2⟩ := Option.bind_eq_some_iff.mp e
    refine ⟨h0, r, q1, ?_⟩
    by_cases h3 : r.1 = 3
    · rw [if_pos h3] at q2
      by_cases h4 : r.2.2.2.2[o]? = some (104, 1)
      · rw [if_pos h4] at q2
        cases q2
        exact Or.inl ⟨h3, h4, rfl, rfl⟩
      · rw [if_neg h4] at q2
        cases q2
    · rw [if_neg h3] at q2
      by_cases h4 : r.1 = 4
      · rw [if_pos h4] at q2
        cases q2
        exact Or.inr ⟨h4, rfl, rfl⟩
      · rw [if_neg h4] at q2
        cases q2
  · rw [if_neg h0] at e
    cases e
theorem zmetX {l : Launch} {y : MethodName} {ws : List Cond} {rm : Room} {Pc : Array Value → State → Prop} {Qc : Array Value → State → Outcome → State → Prop} {mc ms : Nat} {free : Addr → Prop} (h : vx_Met l y ws rm Pc Qc (fun _ _ _ => False) mc ms free) : Met l y ws rm Pc Qc mc ms free := by
  intro p e a1 a2 a3 s m args below hf hs hp hk
  obtain ⟨n, o, b1, b2, b3, b4⟩ := h p e a1 a2 a3 s m args below hf hs hp hk
  rcases b4 with b4 | ⟨q, -, E, ce, L, hx, -⟩
  · exact ⟨n, o, b1, b2, b3, b4⟩
  · exact hx.elim
/-- a helper's end -/
theorem zendH {p : Program} {l : Launch} {e : Env} {R : Room} {s : State} {m : MethodId} {args : Array Value} {below : List Frame} {meth : Method} {c : Code} {co : ByteArray} {G : ZG} {ad ad2 : Nat → Nat} {h h2 : Hp} {sz : Nat} {v : Int32} {mc ms : Nat} {H : Heap} {locs : List Loc} {ls : Array Slot} {cells slots pc : Nat} (hx : p.tables.exec = Jvm.exec) (hb : c.code = co) (hr : meth.sig.returnType = some .int) (hlk : meth.locks = false) (hd : decode co pc = .ok (.ireturn, 1)) (hc : cells ≤ mc) (hs : slots ≤ ms) (hB : ∀ t : State, t.heap = H → zB G ad h h2 sz ad2 t) (hS : va_S (va_A (zws G ad h) sz) s.heap H locs) :
    W p l e R s m args below meth c H locs cells slots (vx_MQ below (zQ 0 G ad h h2 sz (.int v)) (fun _ _ _ => False) args s mc ms (va_A (zws G ad h) sz)) (F0 m pc ls [.int v]) := by
  refine vx_ret ?_
  refine W.widen (k := mc) (n := ms) hc hs ?_
  refine W.zret (ty := .int) hx hb hr rfl (fun t ht hW => ?_) hS.2.2 hd (hlocks := hlk)
  unfold zQ
  rw [if_pos rfl]
  exact ⟨⟨v, ad2, rfl, rfl, hB t ht⟩, hS.F ht⟩
abbrev zrmH (d : Nat) (h h2 : Hp) : Room := { frames := d, cells := h2.2.2.length - h.2.2.length + 1, slots := zsum h2.2.2 - zsum h.2.2 + 6, locals := 64 * d }
