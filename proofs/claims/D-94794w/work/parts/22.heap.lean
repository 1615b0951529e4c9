/-! THE HEAP'S ROWS: fields, arrays, new objects. -/
set_option maxRecDepth 100000
/-- class c of the list: its name, fields, number of fields -/
def zcls (c : Nat) (C : String) (T : u_T) (N : Nat) : Prop := zcl[c]? = some (C, T, N) ∧ c < 100 ∧ (∀ w ∈ u_ws C T N, w ∈ lw_all) ∧ (∀ k, k < N → parseFieldDescriptor (T k).2.2.1 = some (ztyOf c k))
def znm (T : u_T) (N : Nat) : Prop := ∀ a, a < N → ∀ b, b < N → a ≠ b → (T a).2.1 ≠ (T b).2.1
theorem zcls0 : zcls 0 RX1 TX1 52 := ⟨rfl, by decide, in_X1, tyX1_ok⟩
theorem zcls1 : zcls 1 RX2 TX2 6 := ⟨rfl, by decide, in_X2, tyX2_ok⟩
theorem zcls2 : zcls 2 RX3 TX3 52 := ⟨rfl, by decide, in_X3, tyX3_ok⟩
theorem zcls3 : zcls 3 RX5 TX5 3 := ⟨rfl, by decide, in_X5, tyX5_ok⟩
theorem zcls4 : zcls 4 RX6 TX6 3 := ⟨rfl, by decide, in_X6, tyX6_ok⟩
theorem zcls5 : zcls 5 RX7 TX7 3 := ⟨rfl, by decide, in_X7, tyX7_ok⟩
theorem zcls6 : zcls 6 RX8 TX8 5 := ⟨rfl, by decide, in_X8, tyX8_ok⟩
def zlink (own : String) (ix : Nat) (C n dsc : String) : Prop := Cond.fieldLink own ix C n dsc ∈ lw_all ∨ Cond.fieldLinkNest own ix C n dsc "SnowForSummer" ∈ znw
/-- entry ix of the class own is field k of class c -/
def zfld (own : String) (ix c N k : Nat) : Prop := ∃ C T, zcls c C T N ∧ k < N ∧ (T k).1 = C ∧ zlink own ix C (T k).2.1 (T k).2.2.1
/-- and it can be written: no final field, its class' names apart -/
def zfldW (own : String) (ix c N k : Nat) : Prop := ∃ C T, zcls c C T N ∧ k < N ∧ (T k).1 = C ∧ zlink own ix C (T k).2.1 (T k).2.2.1 ∧ znm T N ∧ (T k).2.2.2 = false
/-- and it is final, and of the class' own -/
def zfldF (own : String) (ix c N k : Nat) : Prop := ∃ C T, zcls c C T N ∧ k < N ∧ (T k).1 = C ∧ Cond.fieldLink own ix C (T k).2.1 (T k).2.2.1 ∈ lw_all ∧ znm T N ∧ (T k).2.2.2 = true ∧ C = own
theorem zce_congr {G : ZG} {ad : Nat → Nat} {h h2 : Hp} {j : Nat} {kd : Nat × Nat} (h1 : h2.1 j = h.1 j) (h3 : h2.2.1 j = h.2.1 j) : zce G ad h2 j kd = zce G ad h j kd := by
  unfold zce zfs zfv
  rw [h1, h3]
theorem zws_up {G : ZG} {ad : Nat → Nat} {h h2 : Hp} {i : Nat} {kd : Nat × Nat} (hK : h2.2.2 = h.2.2) (hi : h.2.2[i]? = some kd) (ho : ∀ j, j ≠ i → h2.1 j = h.1 j ∧ h2.2.1 j = h.2.1 j) : (zws G ad h).set i (ad i, zce G ad h2 i kd) = zws G ad h2 := by
  apply List.ext_getElem?
  intro j
  have hlen : i < (zws G ad h).length := (List.getElem?_eq_some_iff.mp (zws_at hi)).1
  by_cases hj : j = i
  · subst hj
    rw [List.getElem?_set_self hlen, zws_at (h := h2) (by rw [hK]; exact hi)]
  · rw [List.getElem?_set_ne (Ne.symm hj)]
    unfold zws
    rw [List.getElem?_mapIdx, List.getElem?_mapIdx, hK]
    cases h.2.2[j]? with
    | none => rfl
    | some q => show some (ad j, zce G ad h j q) = some (ad j, zce G ad h2 j q); rw [zce_congr (ho j hj).1 (ho j hj).2]
theorem zce_obj {G : ZG} {ad : Nat → Nat} {h : Hp} {i c n : Nat} (hc : c < 100) : zce G ad h i (c, n) = .inr (c, zfs ad h i c n) := by
  unfold zce
  rw [if_pos hc]
theorem zce_int {G : ZG} {ad : Nat → Nat} {h : Hp} {i n : Nat} : zce G ad h i (100, n) = .inl (G.2.1 0, n, .inl (h.1 i)) := rfl
theorem zce_byte {G : ZG} {ad : Nat → Nat} {h : Hp} {i n : Nat} : zce G ad h i (101, n) = .inl (G.2.1 1, n, .inl (h.1 i)) := rfl
theorem zce_bool {G : ZG} {ad : Nat → Nat} {h : Hp} {i n : Nat} : zce G ad h i (102, n) = .inl (G.2.1 2, n, .inl (h.1 i)) := rfl
theorem zce_ref {G : ZG} {ad : Nat → Nat} {h : Hp} {i n : Nat} : zce G ad h i (103, n) = .inl (G.2.1 3, n, .inr (.inr (.inr (.inr (fun j => (h.2.1 i j).map ad))))) := rfl
theorem zfs_at {ad : Nat → Nat} {h : Hp} {i c n k : Nat} (hk : k < n) : (zfs ad h i c n)[k]? = some (zfv ad h i c k) := by
  unfold zfs
  rw [List.getElem?_map, List.getElem?_range hk]
  rfl
theorem zfs_set {ad : Nat → Nat} {h h2 : Hp} {i c n k : Nat} {v : Value} (hk : k < n) (hv : zfv ad h2 i c k = v) (ho : ∀ j, j ≠ k → zfv ad h2 i c j = zfv ad h i c j) : (zfs ad h i c n).set k v = zfs ad h2 i c n := by
  apply List.ext_getElem?
  intro j
  have hlen : k < (zfs ad h i c n).length := by unfold zfs; rw [List.length_map, List.length_range]; exact hk
  by_cases hj : j = k
  · subst hj
    rw [List.getElem?_set_self hlen, zfs_at hk, hv]
  · rw [List.getElem?_set_ne (Ne.symm hj)]
    by_cases hl : j < n
    · rw [zfs_at hl, zfs_at hl, ho j hj]
    · unfold zfs
      rw [List.getElem?_eq_none (by rw [List.length_map, List.length_range]; omega), List.getElem?_eq_none (by rw [List.length_map, List.length_range]; omega)]
theorem zfs_len {ad : Nat → Nat} {h : Hp} {i c n : Nat} : (zfs ad h i c n).length = n := by
  unfold zfs
  rw [List.length_map, List.length_range]
section ZHEAP
variable {own : String} {cc : ByteArray} {nL d pc : Nat} {ini : Bool} {Z : ZK} {L : Fr} {ts : List Bool} {st : List Value} {h : Hp}
/-- reading a field: what stands in it -/
theorem zw_get {ix c N k a : Nat} (hX : zx own cc nL d ini Z) (hF : zfld own ix c N k) (hd : decode cc pc = .ok (.getfield ix, 3)) (ha : h.2.2[a]? = some (c, N)) (kk : ∀ v : Value, (zfr c k = false → v = .int (h.1 a k)) → (zfr c k = true → v = va_rf (h.2.1 a k)) → zw Z nL (pc + 3) L ts (v :: st) h) : zw Z nL pc L ts (.ref a :: st) h := by
  obtain ⟨C, T, hc, hk, hT, hl⟩ := hF
  obtain ⟨p, l, e, R, s, m, args, below, meth, co, Q, A, G, cC, cS⟩ := Z
  intro ad H locs ls cells slots hr hlv hok
  have he : (zws G ad h)[a]? = some (ad a, .inr (c, zfs ad h a c N)) := by rw [zws_at ha, zce_obj hc.2.1]
  have go : W p l e R s m args below meth co H locs cells slots Q (F0 m (pc + 3) ls (zfv ad h a c k :: st.map (zt ad))) := by
    cases hz : zfr c k with
    | false =>
      have k1 := kk (.int (h.1 a k)) (fun _ => rfl) (fun q => by rw [hz] at q; cases q) ad H locs ls cells slots hr hlv (zok_i (zok_tl hok))
      have e1 : zfv ad h a c k = .int (h.1 a k) := by unfold zfv; rw [hz]; rfl
      rw [e1]
      exact k1
    | true =>
      have k1 := kk (va_rf (h.2.1 a k)) (fun q => by rw [hz] at q; cases q) (fun _ => rfl) ad H locs ls cells slots hr hlv (zok_r (zok_tl hok) (fun b hb => hr.2.2.2.1 a k b hb))
      have e1 : zfv ad h a c k = va_rf ((h.2.1 a k).map ad) := by unfold zfv; rw [if_pos hz]
      rw [e1]
      have e2 : (va_rf (h.2.1 a k) :: st).map (zt ad) = va_rf ((h.2.1 a k).map ad) :: st.map (zt ad) := by rw [List.map_cons, zt_rf]
      rw [← e2]
      exact k1
  rcases hl with hl | hl
  · exact va_get (D := G.1) hX.1 hX.2.1 hX.2.2.2.2.1 hc.2.2.1 hX.2.2.2.1 hX.2.2.2.2.2.1 hr.1 a he hc.1 k hk (hX.2.2.2.2.1 _ hl) (fun x q => by rw [hT] at q; exact q) (zfs_at hk) hd go
  · exact va_getN (D := G.1) hX.1 hX.2.1 hX.2.2.2.2.1 hc.2.2.1 hX.2.2.2.1 hX.2.2.2.2.2.1 hr.1 a he hc.1 k hk (va_Nw.use rfl (hX.2.2.2.2.2.2.1 _ hl)) (fun x q => by rw [hT] at q; exact q) (zfs_at hk) hd go
theorem zw_getI {ix c N k a : Nat} (hX : zx own cc nL d ini Z) (hF : zfld own ix c N k) (hz : zfr c k = false) (hd : decode cc pc = .ok (.getfield ix, 3)) (ha : h.2.2[a]? = some (c, N)) (kk : zw Z nL (pc + 3) L ts (.int (h.1 a k) :: st) h) : zw Z nL pc L ts (.ref a :: st) h :=
  zw_get hX hF hd ha (fun v h1 _ => by rw [h1 hz]; exact kk)
theorem zw_getR {ix c N k a : Nat} (hX : zx own cc nL d ini Z) (hF : zfld own ix c N k) (hz : zfr c k = true) (hd : decode cc pc = .ok (.getfield ix, 3)) (ha : h.2.2[a]? = some (c, N)) (kk : zw Z nL (pc + 3) L ts (va_rf (h.2.1 a k) :: st) h) : zw Z nL pc L ts (.ref a :: st) h :=
  zw_get hX hF hd ha (fun v _ h1 => by rw [h1 hz]; exact kk)
theorem zu_off {f : Nat → Nat → Int32} {i k : Nat} {v : Int32} {j : Nat} (hj : j ≠ i) : zu f i k v j = f j := by
  unfold zu
  rw [if_neg hj]
theorem zu_on {f : Nat → Nat → Int32} {i k : Nat} {v : Int32} : zu f i k v i = upd (f i) k v := by
  unfold zu
  rw [if_pos rfl]
theorem zur_off {f : Nat → Nat → Option Nat} {i k : Nat} {v : Option Nat} {j : Nat} (hj : j ≠ i) : zur f i k v j = f j := by
  unfold zur
  rw [if_neg hj]
theorem zur_on {f : Nat → Nat → Option Nat} {i k : Nat} {v : Option Nat} : zur f i k v i = va_up (f i) k v := by
  unfold zur
  rw [if_pos rfl]
/-- a store into the heap keeps the rest of the picture -/
theorem zr_st {G : ZG} {A : Nat → Prop} {s : State} {R : Room} {cC cS : Nat} {ad : Nat → Nat} {h h2 : Hp} {H H1 : Heap} {locs locs1 : List Loc} {cells slots : Nat} (hr : zr G A s R cC cS ad h H locs cells slots) (hK : h2.2.2 = h.2.2) (hw : zwf h2) (hP : va_P G.1 zcl (zws G ad h2) H1) (hD : va_D A (zws G ad h2)) (hS : va_S A s.heap H1 locs1) : zr G A s R cC cS ad h2 H1 locs1 cells slots :=
  ⟨hP, hD, hS, hw, hr.2.2.2.2.1, by rw [hK]; exact hr.2.2.2.2.2.1, by rw [hK]; exact hr.2.2.2.2.2.2.1, by rw [hK]; exact hr.2.2.2.2.2.2.2.1, by rw [hK]; exact hr.2.2.2.2.2.2.2.2.1, hr.2.2.2.2.2.2.2.2.2.1, by rw [hK]; exact hr.2.2.2.2.2.2.2.2.2.2⟩
theorem zok_K {h2 : Hp} (hK : h2.2.2 = h.2.2) (hk : zok h L ts st) : zok h2 L ts st := by
  have e : ∀ a, zid h a → zid h2 a := fun a q => by unfold zid at q ⊢; rw [hK]; exact q
  exact ⟨fun i a h1 h2 => e a (hk.1 i a h1 h2), fun a ha => e a (hk.2 a ha)⟩
theorem zwf_u {i k : Nat} {v : Int32} (hw : zwf h) : zwf (zu h.1 i k v, h.2) := fun j n a ha => hw j n a ha
theorem zwf_ur {i k : Nat} {r : Option Nat} (hw : zwf h) (hr : ∀ a, r = some a → zid h a) : zwf (h.1, zur h.2.1 i k r, h.2.2) := by
  intro j n a ha
  by_cases hj : j = i
  · subst hj
    have ha : zur h.2.1 j k r j n = some a := ha
    rw [zur_on] at ha
    unfold va_up at ha
    by_cases hn : n = k
    · rw [if_pos hn] at ha
      exact hr a ha
    · rw [if_neg hn] at ha
      exact hw j n a ha
  · have ha : zur h.2.1 i k r j n = some a := ha
    rw [zur_off hj] at ha
    exact hw j n a ha
theorem zfv_u {ad : Nat → Nat} {i c k j : Nat} {v : Int32} (hj : j ≠ k) : zfv ad (zu h.1 i k v, h.2) i c j = zfv ad h i c j := by
  unfold zfv
  have : zu h.1 i k v i j = h.1 i j := by rw [zu_on]; unfold upd; rw [if_neg hj]
  show (if zfr c j = true then va_rf ((h.2.1 i j).map ad) else Value.int (zu h.1 i k v i j)) = _
  rw [this]
theorem zfv_ur {ad : Nat → Nat} {i c k j : Nat} {r : Option Nat} (hj : j ≠ k) : zfv ad (h.1, zur h.2.1 i k r, h.2.2) i c j = zfv ad h i c j := by
  unfold zfv
  have : zur h.2.1 i k r i j = h.2.1 i j := by rw [zur_on]; unfold va_up; rw [if_neg hj]
  show (if zfr c j = true then va_rf ((zur h.2.1 i k r i j).map ad) else Value.int (h.1 i j)) = _
  rw [this]
/-- writing a field: an int -/
theorem zw_putI {ix c N k a : Nat} {v : Int32} (hX : zx own cc nL d ini Z) (hF : zfldW own ix c N k) (hz : zfr c k = false) (hfit : narrow (ztyOf c k) (.int v) = .int v ∧ fits (ztyOf c k) (.int v) = true) (hd : decode cc pc = .ok (.putfield ix, 3)) (ha : h.2.2[a]? = some (c, N)) (kk : zw Z nL (pc + 3) L ts st (zu h.1 a k v, h.2)) : zw Z nL pc L ts (.int v :: .ref a :: st) h := by
  obtain ⟨C, T, hc, hk, hT, hl, hnm, hfin⟩ := hF
  obtain ⟨p, l, e, R, s, m, args, below, meth, co, Q, A, G, cC, cS⟩ := Z
  intro ad H locs ls cells slots hr hlv hok
  have he : (zws G ad h)[a]? = some (ad a, .inr (c, zfs ad h a c N)) := by rw [zws_at ha, zce_obj hc.2.1]
  have ew : (zws G ad h).set a (ad a, .inr (c, (zfs ad h a c N).set k (.int v))) = zws G ad (zu h.1 a k v, h.2) := by
    rw [zfs_set (h2 := (zu h.1 a k v, h.2)) hk (by unfold zfv; rw [hz]; show Value.int (zu h.1 a k v a k) = _; rw [zu_on]; unfold upd; rw [if_pos rfl]) (fun j hj => zfv_u hj), ← zce_obj (G := G) hc.2.1]
    exact zws_up rfl ha (fun j hj => ⟨zu_off hj, rfl⟩)
  have go : ∀ (H1 : Heap) (locs1 : List Loc), va_P G.1 zcl ((zws G ad h).set a (ad a, .inr (c, (zfs ad h a c N).set k (.int v)))) H1 → va_D A ((zws G ad h).set a (ad a, .inr (c, (zfs ad h a c N).set k (.int v)))) → va_S A s.heap H1 locs1 → W p l e R s m args below meth co H1 locs1 cells slots Q (F0 m (pc + 3) ls (st.map (zt ad))) := by
    intro H1 locs1 hP hD hS
    rw [ew] at hP hD
    exact kk ad H1 locs1 ls cells slots (zr_st hr rfl (zwf_u hr.2.2.2.1) hP hD hS) hlv (zok_K rfl (zok_tl (zok_tl hok)))
  rcases hl with hl | hl
  · exact va_put (D := G.1) (v := .int v) hX.1 hX.2.1 hX.2.2.2.2.1 hc.2.2.1 (ztyOf c) hc.2.2.2 hnm hX.2.2.2.1 hX.2.2.2.2.2.1 hr.1 hr.2.1 hr.2.2.1 a he hc.1 k hk (hX.2.2.2.2.1 _ hl) (fun x q => by rw [hT] at q; exact q) hfin (hc.2.2.2 k hk) hfit.1 hfit.2 (by rw [zfs_len]; exact hk) hd go
  · exact va_putN (D := G.1) (v := .int v) hX.1 hX.2.1 hX.2.2.2.2.1 hc.2.2.1 (ztyOf c) hc.2.2.2 hnm hX.2.2.2.1 hX.2.2.2.2.2.1 hr.1 hr.2.1 hr.2.2.1 a he hc.1 k hk (va_Nw.use rfl (hX.2.2.2.2.2.2.1 _ hl)) (fun x q => by rw [hT] at q; exact q) hfin (hc.2.2.2 k hk) hfit.1 hfit.2 (by rw [zfs_len]; exact hk) hd go
theorem znar_ref {c k : Nat} (hz : zfr c k = true) (r : Option Nat) : narrow (ztyOf c k) (va_rf r) = va_rf r ∧ fits (ztyOf c k) (va_rf r) = true := by
  unfold zfr at hz
  cases ht : ztyOf c k <;> rw [ht] at hz <;> first | (cases hz; done) | (cases r <;> exact ⟨rfl, rfl⟩)
/-- writing a field: a reference -/
theorem zw_putR {ix c N k a : Nat} {r : Option Nat} (hX : zx own cc nL d ini Z) (hF : zfldW own ix c N k ∨ (zfldF own ix c N k ∧ ini = true)) (hz : zfr c k = true) (hd : decode cc pc = .ok (.putfield ix, 3)) (ha : h.2.2[a]? = some (c, N)) (kk : zw Z nL (pc + 3) L ts st (h.1, zur h.2.1 a k r, h.2.2)) : zw Z nL pc L ts (va_rf r :: .ref a :: st) h := by
  obtain ⟨p, l, e, R, s, m, args, below, meth, co, Q, A, G, cC, cS⟩ := Z
  intro ad H locs ls cells slots hr hlv hok
  have htop := zok_top hok
  have hkey : ∀ (C : String) (T : u_T), zcls c C T N → k < N → (zws G ad h)[a]? = some (ad a, .inr (c, zfs ad h a c N)) ∧ ∀ (H1 : Heap) (locs1 : List Loc), va_P G.1 zcl ((zws G ad h).set a (ad a, .inr (c, (zfs ad h a c N).set k (va_rf (r.map ad))))) H1 → va_D A ((zws G ad h).set a (ad a, .inr (c, (zfs ad h a c N).set k (va_rf (r.map ad))))) → va_S A s.heap H1 locs1 → W p l e R s m args below meth co H1 locs1 cells slots Q (F0 m (pc + 3) ls (st.map (zt ad))) := by
    intro C T hc hk
    have he : (zws G ad h)[a]? = some (ad a, .inr (c, zfs ad h a c N)) := by rw [zws_at ha, zce_obj hc.2.1]
    refine ⟨he, ?_⟩
    have ew : (zws G ad h).set a (ad a, .inr (c, (zfs ad h a c N).set k (va_rf (r.map ad)))) = zws G ad (h.1, zur h.2.1 a k r, h.2.2) := by
      rw [zfs_set (h2 := (h.1, zur h.2.1 a k r, h.2.2)) hk (by unfold zfv; rw [if_pos hz]; show va_rf ((zur h.2.1 a k r a k).map ad) = _; rw [zur_on]; unfold va_up; rw [if_pos rfl]) (fun j hj => zfv_ur hj), ← zce_obj (G := G) hc.2.1]
      exact zws_up rfl ha (fun j hj => ⟨rfl, zur_off hj⟩)
    intro H1 locs1 hP hD hS
    rw [ew] at hP hD
    exact kk ad H1 locs1 ls cells slots (zr_st hr rfl (zwf_ur hr.2.2.2.1 htop) hP hD hS) hlv (zok_K rfl (zok_tl (zok_tl hok)))
  rw [List.map_cons, List.map_cons, zt_rf]
  have hnf := znar_ref hz (r.map ad)
  rcases hF with ⟨C, T, hc, hk, hT, hl, hnm, hfin⟩ | ⟨⟨C, T, hc, hk, hT, hl, hnm, hfin, hCo⟩, hini⟩
  · obtain ⟨he, go⟩ := hkey C T hc hk
    rcases hl with hl | hl
    · exact va_put (D := G.1) hX.1 hX.2.1 hX.2.2.2.2.1 hc.2.2.1 (ztyOf c) hc.2.2.2 hnm hX.2.2.2.1 hX.2.2.2.2.2.1 hr.1 hr.2.1 hr.2.2.1 a he hc.1 k hk (hX.2.2.2.2.1 _ hl) (fun x q => by rw [hT] at q; exact q) hfin (hc.2.2.2 k hk) hnf.1 hnf.2 (by rw [zfs_len]; exact hk) hd go
    · exact va_putN (D := G.1) hX.1 hX.2.1 hX.2.2.2.2.1 hc.2.2.1 (ztyOf c) hc.2.2.2 hnm hX.2.2.2.1 hX.2.2.2.2.2.1 hr.1 hr.2.1 hr.2.2.1 a he hc.1 k hk (va_Nw.use rfl (hX.2.2.2.2.2.2.1 _ hl)) (fun x q => by rw [hT] at q; exact q) hfin (hc.2.2.2 k hk) hnf.1 hnf.2 (by rw [zfs_len]; exact hk) hd go
  · obtain ⟨he, go⟩ := hkey C T hc hk
    exact va_putF (D := G.1) hX.1 hX.2.1 hX.2.2.2.2.1 hc.2.2.1 (ztyOf c) hc.2.2.2 hnm hX.2.2.2.1 hX.2.2.2.2.2.1 hr.1 hr.2.1 hr.2.2.1 a he hc.1 k hk (hX.2.2.2.2.1 _ hl) (fun x q => by rw [hT] at q; exact q) hfin (hX.2.2.2.2.2.2.2.2.2.2.2.2.2.2 hini) (hT.trans hCo) (hc.2.2.2 k hk) hnf.1 hnf.2 (by rw [zfs_len]; exact hk) hd go
/-- reading an array of ints, bytes, booleans -/
theorem zw_iald {a n : Nat} {i : Int32} (hX : zx own cc nL d ini Z) (hd : decode cc pc = .ok (.iaload, 1)) (ha : h.2.2[a]? = some (100, n)) (hi : zinb i n = true) (kk : zw Z nL (pc + 1) L ts (.int (h.1 a i.toNatClampNeg) :: st) h) : zw Z nL pc L ts (.int i :: .ref a :: st) h := by
  obtain ⟨p, l, e, R, s, m, args, below, meth, co, Q, A, G, cC, cS⟩ := Z
  intro ad H locs ls cells slots hr hlv hok
  exact va_iald (D := G.1) hX.1 hX.2.1 hX.2.2.2.2.2.1 hr.1 a 0 (zws_at ha) rfl (zinb_in hi) hd (kk ad H locs ls cells slots hr hlv (zok_i (zok_tl (zok_tl hok))))
theorem zw_bald {a n : Nat} {i : Int32} (hX : zx own cc nL d ini Z) (hd : decode cc pc = .ok (.baload, 1)) (ha : h.2.2[a]? = some (101, n)) (hi : zinb i n = true) (kk : zw Z nL (pc + 1) L ts (.int (h.1 a i.toNatClampNeg) :: st) h) : zw Z nL pc L ts (.int i :: .ref a :: st) h := by
  obtain ⟨p, l, e, R, s, m, args, below, meth, co, Q, A, G, cC, cS⟩ := Z
  intro ad H locs ls cells slots hr hlv hok
  exact va_bald (D := G.1) hX.1 hX.2.1 hX.2.2.2.2.2.1 hr.1 a 1 (zws_at ha) rfl (zinb_in hi) hd (kk ad H locs ls cells slots hr hlv (zok_i (zok_tl (zok_tl hok))))
theorem zw_zald {a n : Nat} {i : Int32} (hX : zx own cc nL d ini Z) (hd : decode cc pc = .ok (.baload, 1)) (ha : h.2.2[a]? = some (102, n)) (hi : zinb i n = true) (kk : zw Z nL (pc + 1) L ts (.int (h.1 a i.toNatClampNeg) :: st) h) : zw Z nL pc L ts (.int i :: .ref a :: st) h := by
  obtain ⟨p, l, e, R, s, m, args, below, meth, co, Q, A, G, cC, cS⟩ := Z
  intro ad H locs ls cells slots hr hlv hok
  exact va_zald (D := G.1) hX.1 hX.2.1 hX.2.2.2.2.2.1 hr.1 a 2 (zws_at ha) rfl (zinb_in hi) hd (kk ad H locs ls cells slots hr hlv (zok_i (zok_tl (zok_tl hok))))
theorem zw_aald {a n : Nat} {i : Int32} (hX : zx own cc nL d ini Z) (hd : decode cc pc = .ok (.aaload, 1)) (ha : h.2.2[a]? = some (103, n)) (hi : zinb i n = true) (kk : zw Z nL (pc + 1) L ts (va_rf (h.2.1 a i.toNatClampNeg) :: st) h) : zw Z nL pc L ts (.int i :: .ref a :: st) h := by
  obtain ⟨p, l, e, R, s, m, args, below, meth, co, Q, A, G, cC, cS⟩ := Z
  intro ad H locs ls cells slots hr hlv hok
  have k1 := kk ad H locs ls cells slots hr hlv (zok_r (zok_tl (zok_tl hok)) (fun b hb => hr.2.2.2.1 a _ b hb))
  rw [List.map_cons, zt_rf] at k1
  exact va_aldq (D := G.1) (C := RX2) hX.1 hX.2.1 hX.2.2.2.2.2.1 hr.1 a 3 (zws_at ha) rfl (zinb_in hi) hd k1
theorem zw_alen {a : Nat} {q : Nat × Nat} (hX : zx own cc nL d ini Z) (hd : decode cc pc = .ok (.arraylength, 1)) (ha : h.2.2[a]? = some q) (hq : 100 ≤ q.1 ∧ q.1 < 104) (kk : zw Z nL (pc + 1) L ts (.int (Int32.ofNat q.2) :: st) h) : zw Z nL pc L ts (.ref a :: st) h := by
  obtain ⟨p, l, e, R, s, m, args, below, meth, co, Q, A, G, cC, cS⟩ := Z
  intro ad H locs ls cells slots hr hlv hok
  have k1 := kk ad H locs ls cells slots hr hlv (zok_i (zok_tl hok))
  obtain ⟨q1, n⟩ := q
  have hz : q1 = 100 ∨ q1 = 101 ∨ q1 = 102 ∨ q1 = 103 := by
    have h1 : 100 ≤ q1 := hq.1
    have h2 : q1 < 104 := hq.2
    omega
  rcases hz with rfl | rfl | rfl | rfl
  · exact va_alen (D := G.1) hX.1 hX.2.1 hX.2.2.2.2.2.1 hr.1 a 0 (zws_at ha) rfl rfl hd k1
  · exact va_alen (D := G.1) hX.1 hX.2.1 hX.2.2.2.2.2.1 hr.1 a 1 (zws_at ha) rfl rfl hd k1
  · exact va_alen (D := G.1) hX.1 hX.2.1 hX.2.2.2.2.2.1 hr.1 a 2 (zws_at ha) rfl rfl hd k1
  · exact va_alen (D := G.1) hX.1 hX.2.1 hX.2.2.2.2.2.1 hr.1 a 3 (zws_at ha) rfl rfl hd k1
/-- writing an array of ints, bytes, booleans -/
theorem zw_iast {a n : Nat} {i x : Int32} (hX : zx own cc nL d ini Z) (hd : decode cc pc = .ok (.iastore, 1)) (ha : h.2.2[a]? = some (100, n)) (hi : zinb i n = true) (kk : zw Z nL (pc + 1) L ts st (zu h.1 a i.toNatClampNeg x, h.2)) : zw Z nL pc L ts (.int x :: .int i :: .ref a :: st) h := by
  obtain ⟨p, l, e, R, s, m, args, below, meth, co, Q, A, G, cC, cS⟩ := Z
  intro ad H locs ls cells slots hr hlv hok
  refine va_iast (D := G.1) (cA := G.2.1 0) (n := n) (f := h.1 a) hX.1 hX.2.1 hX.2.2.2.2.2.1 hr.1 hr.2.1 hr.2.2.1 a 0 (zws_at ha) rfl (zinb_in hi) hd fun H1 locs1 hP hD hS => ?_
  have ew : (zws G ad h).set a (ad a, .inl (G.2.1 0, n, .inl (upd (h.1 a) i.toNatClampNeg x))) = zws G ad (zu h.1 a i.toNatClampNeg x, h.2) := by
    rw [← zws_up (h := h) (h2 := (zu h.1 a i.toNatClampNeg x, h.2)) rfl ha (fun j hj => ⟨zu_off hj, rfl⟩), zce_int]
    show _ = List.set _ a (ad a, (Sum.inl (G.2.1 0, n, Sum.inl (zu h.1 a i.toNatClampNeg x a)) : va_E))
    rw [zu_on]
  rw [ew] at hP hD
  exact kk ad H1 locs1 ls cells slots (zr_st hr rfl (zwf_u hr.2.2.2.1) hP hD hS) hlv (zok_K rfl (zok_tl (zok_tl (zok_tl hok))))
theorem zw_bast {a n : Nat} {i x : Int32} (hX : zx own cc nL d ini Z) (hd : decode cc pc = .ok (.bastore, 1)) (ha : h.2.2[a]? = some (101, n)) (hi : zinb i n = true) (kk : zw Z nL (pc + 1) L ts st (zu h.1 a i.toNatClampNeg (vp_nar .byte x), h.2)) : zw Z nL pc L ts (.int x :: .int i :: .ref a :: st) h := by
  obtain ⟨p, l, e, R, s, m, args, below, meth, co, Q, A, G, cC, cS⟩ := Z
  intro ad H locs ls cells slots hr hlv hok
  refine va_bast (D := G.1) (cA := G.2.1 1) (n := n) (f := h.1 a) hX.1 hX.2.1 hX.2.2.2.2.2.1 hr.1 hr.2.1 hr.2.2.1 a 1 (zws_at ha) rfl (zinb_in hi) hd fun H1 locs1 hP hD hS => ?_
  have ew : (zws G ad h).set a (ad a, .inl (G.2.1 1, n, .inl (upd (h.1 a) i.toNatClampNeg (vp_nar .byte x)))) = zws G ad (zu h.1 a i.toNatClampNeg (vp_nar .byte x), h.2) := by
    rw [← zws_up (h := h) (h2 := (zu h.1 a i.toNatClampNeg (vp_nar .byte x), h.2)) rfl ha (fun j hj => ⟨zu_off hj, rfl⟩), zce_byte]
    show _ = List.set _ a (ad a, (Sum.inl (G.2.1 1, n, Sum.inl (zu h.1 a i.toNatClampNeg (vp_nar .byte x) a)) : va_E))
    rw [zu_on]
  rw [ew] at hP hD
  exact kk ad H1 locs1 ls cells slots (zr_st hr rfl (zwf_u hr.2.2.2.1) hP hD hS) hlv (zok_K rfl (zok_tl (zok_tl (zok_tl hok))))
theorem zw_zast {a n : Nat} {i x : Int32} (hX : zx own cc nL d ini Z) (hd : decode cc pc = .ok (.bastore, 1)) (ha : h.2.2[a]? = some (102, n)) (hi : zinb i n = true) (kk : zw Z nL (pc + 1) L ts st (zu h.1 a i.toNatClampNeg (vp_nar .boolean x), h.2)) : zw Z nL pc L ts (.int x :: .int i :: .ref a :: st) h := by
  obtain ⟨p, l, e, R, s, m, args, below, meth, co, Q, A, G, cC, cS⟩ := Z
  intro ad H locs ls cells slots hr hlv hok
  refine va_zast (D := G.1) (cA := G.2.1 2) (n := n) (f := h.1 a) hX.1 hX.2.1 hX.2.2.2.2.2.1 hr.1 hr.2.1 hr.2.2.1 a 2 (zws_at ha) rfl (zinb_in hi) hd fun H1 locs1 hP hD hS => ?_
  have ew : (zws G ad h).set a (ad a, .inl (G.2.1 2, n, .inl (upd (h.1 a) i.toNatClampNeg (vp_nar .boolean x)))) = zws G ad (zu h.1 a i.toNatClampNeg (vp_nar .boolean x), h.2) := by
    rw [← zws_up (h := h) (h2 := (zu h.1 a i.toNatClampNeg (vp_nar .boolean x), h.2)) rfl ha (fun j hj => ⟨zu_off hj, rfl⟩), zce_bool]
    show _ = List.set _ a (ad a, (Sum.inl (G.2.1 2, n, Sum.inl (zu h.1 a i.toNatClampNeg (vp_nar .boolean x) a)) : va_E))
    rw [zu_on]
  rw [ew] at hP hD
  exact kk ad H1 locs1 ls cells slots (zr_st hr rfl (zwf_u hr.2.2.2.1) hP hD hS) hlv (zok_K rfl (zok_tl (zok_tl (zok_tl hok))))
/-- writing an array of Towns -/
theorem zw_aast {a n : Nat} {i : Int32} {r : Option Nat} (hX : zx own cc nL d ini Z) (hd : decode cc pc = .ok (.aastore, 1)) (ha : h.2.2[a]? = some (103, n)) (hi : zinb i n = true) (hrk : ∀ b, r = some b → h.2.2[b]? = some (1, 6)) (kk : zw Z nL (pc + 1) L ts st (h.1, zur h.2.1 a i.toNatClampNeg r, h.2.2)) : zw Z nL pc L ts (va_rf r :: .int i :: .ref a :: st) h := by
  obtain ⟨p, l, e, R, s, m, args, below, meth, co, Q, A, G, cC, cS⟩ := Z
  intro ad H locs ls cells slots hr hlv hok
  have htop := zok_top hok
  have ew : (zws G ad h).set a (ad a, .inl (G.2.1 3, n, .inr (.inr (.inr (.inr (va_up (fun j => (h.2.1 a j).map ad) i.toNatClampNeg (r.map ad))))))) = zws G ad (h.1, zur h.2.1 a i.toNatClampNeg r, h.2.2) := by
    rw [← zws_up (h := h) (h2 := (h.1, zur h.2.1 a i.toNatClampNeg r, h.2.2)) rfl ha (fun j hj => ⟨rfl, zur_off hj⟩), zce_ref]
    have ef : (fun j => (zur h.2.1 a i.toNatClampNeg r a j).map ad) = va_up (fun j => (h.2.1 a j).map ad) i.toNatClampNeg (r.map ad) := by
      funext j
      rw [zur_on]
      unfold va_up
      by_cases hj : j = i.toNatClampNeg
      · rw [if_pos hj, if_pos hj]
      · rw [if_neg hj, if_neg hj]
    rw [← ef]
  have go : ∀ (H1 : Heap) (locs1 : List Loc), va_P G.1 zcl ((zws G ad h).set a (ad a, .inl (G.2.1 3, n, .inr (.inr (.inr (.inr (va_up (fun j => (h.2.1 a j).map ad) i.toNatClampNeg (r.map ad)))))))) H1 → va_D A ((zws G ad h).set a (ad a, .inl (G.2.1 3, n, .inr (.inr (.inr (.inr (va_up (fun j => (h.2.1 a j).map ad) i.toNatClampNeg (r.map ad)))))))) → va_S A s.heap H1 locs1 → W p l e R s m args below meth co H1 locs1 cells slots Q (F0 m (pc + 1) ls (st.map (zt ad))) := by
    intro H1 locs1 hP hD hS
    rw [ew] at hP hD
    exact kk ad H1 locs1 ls cells slots (zr_st hr rfl (zwf_ur hr.2.2.2.1 htop) hP hD hS) hlv (zok_K rfl (zok_tl (zok_tl (zok_tl hok))))
  cases r with
  | none => exact va_astqN (D := G.1) (C := RX2) (cA := G.2.1 3) (n := n) (f := fun j => (h.2.1 a j).map ad) hX.1 hX.2.1 hX.2.2.2.2.2.1 hr.1 hr.2.1 hr.2.2.1 a 3 (zws_at ha) rfl (zinb_in hi) hd go
  | some b =>
    have hb : (zws G ad h)[b]? = some (ad b, .inr (1, zfs ad h b 1 6)) := by rw [zws_at (hrk b rfl), zce_obj (by decide)]
    exact va_astq (D := G.1) (r := (RX2, TX2, 6)) (cA := G.2.1 3) (n := n) (f := fun j => (h.2.1 a j).map ad) hX.1 hX.2.1 hX.2.2.2.2.2.1 hr.1 hr.2.1 hr.2.2.1 a 3 b 1 (zws_at ha) rfl hb rfl (zinb_in hi) hd go
end ZHEAP
