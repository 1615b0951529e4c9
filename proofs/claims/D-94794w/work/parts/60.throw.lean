/-! S's METHODS THAT THROW (of, net, bare, premium, row), and the law's helpers that catch. -/
set_option maxRecDepth 100000
abbrev zNSE : String := "java/util/NoSuchElementException"
abbrev zRTE : List String := ["java/lang/RuntimeException", "java/lang/Exception"]
theorem zat0 : ∀ w ∈ vx_at0 RX1 237 zNSE zRTE, w ∈ lw_all ∨ w ∈ znw := by
  intro w hw
  obtain ⟨h1, h2⟩ := List.mem_filter.mp hw
  simp only [Bundle.ownAtoms0, Bundle.throwableAtoms, Bundle.chain0Atoms, Bundle.passAtoms, List.mem_append, List.mem_cons, List.not_mem_nil, or_false, or_assoc] at h1
  rcases h1 with rfl | rfl | rfl | rfl | rfl | rfl | rfl | rfl | rfl | rfl | rfl | rfl | rfl | rfl | rfl | rfl | rfl | rfl | rfl | rfl | rfl | rfl | rfl | rfl | rfl | rfl | rfl | rfl | rfl | rfl | rfl | rfl | rfl | rfl | rfl | rfl | rfl | rfl | rfl | rfl | rfl | rfl | rfl | rfl | rfl | rfl | rfl | rfl | rfl | rfl | rfl | rfl | rfl
  all_goals first | exact Or.inl q104 | exact Or.inl q966 | exact Or.inl q975 | exact Or.inl q977 | exact Or.inl q980 | exact Or.inl q982 | exact Or.inl q967 | exact Or.inl q968 | exact Or.inl q115 | exact Or.inl q116 | exact Or.inl q969 | exact Or.inl q974 | exact Or.inl q978 | exact Or.inl q994 | exact Or.inl q956 | exact Or.inl q995 | exact Or.inl q958 | exact Or.inl q996 | exact Or.inl q960 | exact Or.inl q970 | exact Or.inl q972 | exact Or.inl q962 | exact Or.inl q984 | exact Or.inl q985 | exact Or.inl q986 | exact Or.inl q987 | exact Or.inl q988 | exact Or.inl q989 | exact Or.inl q990 | exact Or.inl q991 | exact Or.inl q992 | exact Or.inl q983 | exact Or.inl q945 | exact Or.inl q953 | exact Or.inl q954 | exact Or.inl q955 | exact Or.inl q957 | exact Or.inl q959 | exact Or.inl q961 | exact Or.inl q965 | exact Or.inl q964 | exact Or.inl q963 | exact Or.inr (List.mem_of_getElem? (i := 20) rfl) | exact Or.inr (List.mem_of_getElem? (i := 21) rfl) | exact Or.inr (List.mem_of_getElem? (i := 22) rfl) | exact Or.inr (List.mem_of_getElem? (i := 23) rfl) | exact absurd h2 (by decide +kernel)
theorem zat_ot : ∀ w ∈ Cond.classLink RX1 235 zNSE :: Cond.initialized zNSE :: vx_at0 RX1 237 zNSE zRTE, vx_ot w = true := List.all_eq_true.mp (by decide +kernel)
theorem zat_hat {args : Array Value} {s : State} (hts : ∀ w ∈ lw_all, w.before args s = true) (hnn : znn s) : ∀ w ∈ vx_at0 RX1 237 zNSE zRTE, w.before args s = true := by
  intro w hw
  rcases zat0 w hw with h | h
  · exact hts w h
  · refine va_Nw.use ?_ (hnn w h)
    have := zat_ot w (List.mem_cons_of_mem _ (List.mem_cons_of_mem _ hw))
    simp only [znw, List.mem_cons, List.not_mem_nil, or_false] at h
    rcases h with rfl | rfl | rfl | rfl | rfl | rfl | rfl | rfl | rfl | rfl | rfl | rfl | rfl | rfl | rfl | rfl | rfl | rfl | rfl | rfl | rfl | rfl | rfl | rfl <;> rfl
def zXC (G : ZG) (ad : Nat → Nat) (h h2 : Hp) (sz : Nat) : String → State → State → Prop := vx_X (S := Nat → Nat) (fun _ => True) (fun E ad2 t => E = zNSE ∧ zB G ad h h2 sz ad2 t) (va_A (zws G ad h) sz)
theorem zstr_of {G : ZG} {ad ad2 : Nat → Nat} {h : Hp} (hstr : ∀ k, k < 13 → ad (1000000 + k) = G.2.2.1 k) (hs2 : ∀ k, k < 13 → ad2 (1000000 + k) = G.2.2.1 k) (hag : ∀ a, a < h.2.2.length → ad2 a = ad a) : ∀ a, zid h a → ad2 a = ad a := by
  intro a ha
  rcases ha with ha | ⟨ha1, ha2⟩
  · exact hag a ha
  · have := hs2 (a - 1000000) (by omega)
    rw [show 1000000 + (a - 1000000) = a by omega] at this
    rw [this, ← hstr (a - 1000000) (by omega), show 1000000 + (a - 1000000) = a by omega]
abbrev zrmX (d : Nat) (h h2 : Hp) : Room := { frames := d, cells := h2.2.2.length - h.2.2.length + 1, slots := zsum h2.2.2 - zsum h.2.2 + 6, locals := 64 * d }
theorem va_P_cell {D : va_G} {cl : List vw_C} {ws : va_W} {H : Heap} (h : va_P D cl ws H) {k : Nat} {q : Nat × va_E} (hk : ws[k]? = some q) : ∃ c, H[q.1]? = some c := by
  have h1 := h k q hk
  obtain ⟨a, e⟩ := q
  cases e with
  | inl e => exact ⟨_, h1⟩
  | inr e =>
    obtain ⟨r, -, cell, q1, -⟩ := h1
    exact ⟨cell, q1⟩
/-- a method of S, where it throws -/
theorem zThr {y : MethodName} {co : ByteArray} {mL d x : Nat} {ret : Option FieldType} {ts ts2 : List Bool} {s : ZS} (hy : plainName y.cls = true) (hcls : y.cls = RX1) (hn : ts.length ≤ mL) (hj : zj_S RX1 co mL d false 0 ts [] ts2 0 x 0 0 s)
    {l : Launch} {Qc : Array Value → State → Outcome → State → Prop} (hl : l.stackTraces = false) {G : ZG} {ad : Nat → Nat} {h : Hp} {as : List Value} {r : Nat × Fr × Hp} {sz : Nat} (ht : zty ts as = true) (hs : s (zf as) h = some r) (h4 : r.1 = 4) (hwf : zwf h) (has : ∀ a, Value.ref a ∈ as → zid h a) (hcap : r.2.2.2.2.length + 1 ≤ 1000000) (hstr : ∀ k, k < 13 → ad (1000000 + k) = G.2.2.1 k) :
    vx_Met l y (ws_ y co mL ret) (zrmX (d + 6) h r.2.2) (va_Pc (as.map (zt ad)) (zPre G ad h sz)) Qc (zXC G ad h r.2.2 sz) (r.2.2.2.2.length - h.2.2.length + 1) (zsum r.2.2.2.2 - zsum h.2.2 + 6) (va_A (zws G ad h) sz) := by
  have hle := hj.1 _ _ _ hs
  have l1 := zle_len hle
  have l2 := zle_sum hle
  refine vx_ofW (cc := co) (maxL := mL) (ret := ret) hy rfl ?_
  intro p e s0 m args below meth c s₁ B hml hexc hv
  obtain ⟨hargs, hsz, hP, hK, hD, hew, hex⟩ := hv
  have hts := atoms_spec (ws := ws_ y co mL ret) B.pre
  have hts : ∀ w ∈ lw_all, w.before args s0 = true := fun w h => hts w (List.mem_cons_of_mem _ h)
  have hown : s0.vm.findClass RX1 = some m.cls := by rw [← hcls]; exact findClass_of_methodNamed B.named
  generalize hZ : ((p, l, e, (headSpec (ws_ y co mL ret) (zrmX (d + 6) h r.2.2)).room, s0, m, args, below, meth, c, vx_MQ below Qc (zXC G ad h r.2.2 sz) args s0 (r.2.2.2.2.length - h.2.2.length + 1) (zsum r.2.2.2.2 - zsum h.2.2 + 6) (va_A (zws G ad h) sz), va_A (zws G ad h) sz, (G.1, G.2.1, G.2.2.1, G.2.2.2.1, ad, h.2.2.length), r.2.2.2.2.length + 1, zsum r.2.2.2.2 + 6) : ZK) = Z
  have X : zx RX1 co mL d false Z := by
    rw [← hZ]
    exact ⟨B.exec, B.bytes, hml, hown, hts, hK, hew.2.1, hew, hex, fun q hq => Or.inr (by rw [← hsz]; exact hq), by show d ≤ d + 6; omega, by show 64 * d ≤ 64 * (d + 6); omega, hcap, B.notSynchronized, fun hi => by cases hi⟩
  have k4 : zthr co Z r.2.2 := by
    rw [← hZ]
    intro ad2 H locs ls cells slots pc ix iy hls hr d0 d3 d4 d7 hix
    obtain ⟨rfl, rfl⟩ := hix
    obtain ⟨hP2, hD2, hS, hwf2, hs2, hc1, hc2, hc3, hc4, hag, hn0⟩ := hr
    have hc1 : cells + (r.2.2.2.2.length + 1) ≤ (r.2.2.2.2.length - h.2.2.length + 1) + r.2.2.2.2.length := hc1
    have hc2 : slots + (zsum r.2.2.2.2 + 6) ≤ (zsum r.2.2.2.2 - zsum h.2.2 + 6) + zsum r.2.2.2.2 := hc2
    refine vx_throw0 (own := RX1) (cls := zNSE) (names := zRTE) B.exec B.bytes hl hown (by decide +kernel) (by decide +kernel) (hts _ q944) (hts _ q107) (zat_hat hts hew.2.1) zat_ot hex.2.2.1 hex.2.2.2 hS hls d0 d3 d4 d7 (fun x hx => (hexc x hx).elim) (by show 2 + 3 < d + 6; omega) (by show 0 + (13 * (2 + 1) + 42) ≤ 64 * (d + 6); omega) (by show cells + 1 ≤ r.2.2.2.2.length - h.2.2.length + 1; omega) (by show slots + 6 ≤ zsum r.2.2.2.2 - zsum h.2.2 + 6; omega) B.notSynchronized ?_ hS.2.2 (by omega) (by omega)
    intro t hvm hsz2 hqs
    refine ⟨ad2, trivial, ⟨rfl, zstr_of hstr hs2 (fun a ha => hag a ha), ?_, hD2, hwf2⟩, ?_, ?_⟩
    · refine hP2.kept fun k q hk => hqs q.1 ?_
      obtain ⟨c9, hc9⟩ := va_P_cell hP2 hk
      exact (Array.getElem?_eq_some_iff.mp hc9).1
    · exact Nat.le_trans hS.1 hsz2
    · intro q hq hA
      rw [hqs q (Nat.lt_of_lt_of_le hq hS.1)]
      exact hS.2.1 q hq hA
  have w := hj.2 Z X (zf as) h r hs (by rw [← hZ]; exact ⟨Nat.le_succ _, Nat.le_add_right _ _⟩) (fun q => by rw [h4] at q; cases q) (fun q => by rw [h4] at q; cases q) (fun q => by rw [h4] at q; cases q) (fun q => by rw [h4] at q; cases q) (fun _ => k4)
  subst hargs
  subst hsz
  rw [← hZ] at w
  rw [lg_entry_eq]
  exact w ad s0.heap [] _ 0 0 ⟨hP, hD.self, va_S.rf, hwf, hstr, by show 0 + (r.2.2.2.2.length + 1) ≤ (r.2.2.2.2.length - h.2.2.length + 1) + h.2.2.length; omega, by show 0 + (zsum r.2.2.2.2 + 6) ≤ (zsum r.2.2.2.2 - zsum h.2.2 + 6) + zsum h.2.2; omega, by omega, by omega, fun a _ => rfl, Nat.le_refl _⟩ (zentry ht hn) (zentry_ok has)
