/-! THE LAW FROM ITS ENTRY, over what is owed of the operations. -/
set_option maxRecDepth 100000
theorem whole_start_open {Inv : Nat → Hp → Prop} (hI : zInvOk Inv) (hops : zopAll Inv) (hmono : ∀ k h, Inv k h → Inv (k + 1) h) (hinit : zInit Inv) {p : Program} {e : Env} {s : State} {m : MethodId} {below : List Frame} {meth : Method} {c : Code} (l : Launch) (hflags : l.flags = flags0) {b L : Nat} {xs : Nat → Int32} (hL : L ≤ 320) (C0 : lw_At p s m meth c b L xs) : W p l e room_1 s m #[Value.ref b] below meth c s.heap [] 0 0 (lw_Z below #[Value.ref b] s) (entryFrame m ([Value.ref b] : List Value).toArray 7) := by
  obtain ⟨hx, hb, hr, hml, hown, hts, hX, hbl, hlocks, hgv⟩ := id C0
  have hl : l.stackTraces = false := by
    unfold Launch.stackTraces
    rw [hflags]
    decide +kernel
  obtain ⟨G, hK, hnn, hew, hex, hGb, hG0⟩ := zbegin (b := b) hts hgv
  have hsc : ∀ cC cS, zsc (p, l, e, room_1, s, m, #[Value.ref b], below, meth, c, lw_Z below #[Value.ref b] s, (fun q => s.heap.size ≤ q), G, cC, cS) L xs := by
    intro cC cS
    show va_X (G.2.2.1 12) L xs s s.heap ∧ G.2.2.1 12 < s.heap.size ∧ ¬ s.heap.size ≤ G.2.2.1 12
    rw [hGb]
    exact ⟨hX, hbl, Nat.not_le.mpr hbl⟩
  have X : zx RX0 code 7 300 false (p, l, e, room_1, s, m, #[Value.ref b], below, meth, c, lw_Z below #[Value.ref b] s, (fun q => s.heap.size ≤ q), G, 100000, 1000000) :=
    ⟨hx, hb, hml, hown, fun w h => hts w (lw_all_tbl h), hK, hnn, hew, hex, fun q h => h, Nat.le_of_ble_eq_true rfl, Nat.le_of_ble_eq_true rfl, Nat.le_of_ble_eq_true rfl, hlocks, fun h => by cases h⟩
  have hend : ∀ cC cS (L : Fr) (h : Hp), zx RX0 code 7 300 false (p, l, e, room_1, s, m, #[Value.ref b], below, meth, c, lw_Z below #[Value.ref b] s, (fun q => s.heap.size ≤ q), G, cC, cS) → zw (p, l, e, room_1, s, m, #[Value.ref b], below, meth, c, lw_Z below #[Value.ref b] s, (fun q => s.heap.size ≤ q), G, cC, cS) 7 2039 L zlts [] h := by
    intro cC cS L h hX
    refine zw_const hX 1 (rfl : Int32.ofInt 1 = 1) dL_law_2039 ?_
    intro ad H locs ls cells slots hr2 hlv hok
    obtain ⟨hP2, hD2, hS2, hwf2, hs2, hc1, hc2, hc3, hc4, hag, hn0⟩ := hr2
    have hc1 : cells + cC ≤ 601024 + h.2.2.length := hc1
    have hc2 : slots + cS ≤ 7293034 + zsum h.2.2 := hc2
    refine va_forget (fun q hq => hS2.2.2 q hq) ?_
    refine W.widen (k := 601024) (n := 7293034) (by omega) (by omega) ?_
    exact lw_ret hx hb hr hlocks dL_law_2040
  obtain ⟨L0, h0, e0, g0, g1, g2, g3, g4, hI0⟩ := hinit
  have hk0 := hI 0 h0 hI0
  have w := W_pro.2 _ X (zf [.ref 1000012]) zh0 _ e0 ⟨by have := hk0.2.2.1; show h0.2.2.length ≤ 100000; omega, by have := hk0.2.2.2.1; show zsum h0.2.2 ≤ 1000000; omega⟩ (fun _ => law_loop hI hops hmono hl hL hsc hend 65 0 100000 1000000 L0 h0 rfl X (Nat.le_of_ble_eq_true rfl) (Nat.le_of_ble_eq_true rfl) hI0 g0 g1 g2 g3 (by rw [g4]; rfl)) (fun q => by cases q) (fun q => by cases q) (fun q => by cases q) (fun q => by cases q)
  have hent := zentry (ad := fun a => G.2.2.1 (a - 1000000)) (ts := [true]) (as := [.ref 1000012]) (nL := 7) rfl (Nat.le_of_ble_eq_true rfl)
  have eb : ([Value.ref 1000012].map (zt (fun a => G.2.2.1 (a - 1000000)))) = [Value.ref b] := by
    show [Value.ref (G.2.2.1 12)] = _
    rw [hGb]
  rw [eb] at hent
  rw [lg_entry_eq]
  refine w (fun a => G.2.2.1 (a - 1000000)) s.heap [] _ 0 0 ⟨?_, ?_, va_S.rf, ?_, ?_, ?_, ?_, ?_, ?_, ?_, ?_⟩ hent ⟨?_, ?_⟩
  · intro k q h
    have h : (([] : va_W))[k]? = some q := h
    simp at h
  · refine ⟨fun i j p q h => ?_, fun k q h => ?_⟩
    · have h : (([] : va_W))[i]? = some p := h
      simp at h
    · have h : (([] : va_W))[k]? = some q := h
      simp at h
  · intro i k a h
    cases h
  · intro k hk
    show G.2.2.1 (1000000 + k - 1000000) = _
    rw [show 1000000 + k - 1000000 = k by omega]
  · exact Nat.le_of_ble_eq_true rfl
  · exact Nat.le_of_ble_eq_true rfl
  · exact Nat.zero_le _
  · exact Nat.zero_le _
  · intro a ha
    rw [hG0] at ha
    exact absurd ha (Nat.not_lt_zero _)
  · rw [hG0]
    exact Nat.zero_le _
  · intro i a hi ha
    have hi : ([true] : List Bool)[i]? = some true := hi
    have : i < 1 := (List.getElem?_eq_some_iff.mp hi).1
    have e : i = 0 := by omega
    subst e
    cases ha
    exact Or.inr ⟨by decide, by decide⟩
  · intro a ha
    cases ha
