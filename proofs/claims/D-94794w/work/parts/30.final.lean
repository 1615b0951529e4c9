/-! FINAL FIELDS of classes two of whose fields share a name (Node's this$0 and the subclass' own). -/
set_option maxRecDepth 100000
/-- entry ix of class own is field k of class c, final, declared in own -/
def zfldP (own : String) (ix c N k : Nat) : Prop := ∃ C T, zcls c C T N ∧ k < N ∧ (T k).1 = own ∧ Cond.fieldLink own ix own (T k).2.1 (T k).2.2.1 ∈ lw_all ∧ (∀ j, j < N → (T j).2.2.2 = true) ∧ (∀ a, a < N → ∀ b, b < N → a ≠ b → (T a).2.1 ≠ (T b).2.1 ∨ (T a).1 ≠ (T b).1)
theorem zname {vm : Vm} {name : String} {c : ClassId} {k : Class} (h : vm.findClass name = some c) (hk : vm.classes[c]? = some k) : k.name = name := by
  obtain ⟨hlt, hp, -⟩ := Array.findIdx?_eq_some_iff_getElem.mp h
  rw [Array.getElem?_eq_getElem hlt] at hk
  cases hk
  simp only [Bool.and_eq_true, beq_iff_eq] at hp
  exact hp.1.1.1
theorem zfound {s : State} {O n d : String} {c : ClassId} {k : Class} {i : Nat} {f : Field} (h : s.fieldFound? O n d = some (c, k, i, f)) : s.vm.classes[c]? = some k := by
  unfold State.fieldFound? at h
  simp only [Option.bind_eq_bind, Option.bind_eq_some_iff] at h
  obtain ⟨a, -, b, -, q, -, k2, h3, f2, h4, h5⟩ := h
  cases h5
  exact h3
theorem zap {args : Array Value} {s : State} {D : va_G} {tys : List (ClassId × FieldType)} {own : String} {C : String} {T : u_T} {N ci : Nat} (hts : ∀ w ∈ lw_all, w.before args s = true) (hc : zcls ci C T N) (hfin : ∀ j, j < N → (T j).2.2.2 = true) (hnm : ∀ a, a < N → ∀ b, b < N → a ≠ b → (T a).2.1 ≠ (T b).2.1 ∨ (T a).1 ≠ (T b).1) (hK : va_K D zcl tys s) : ∀ x y, x < N → y < N → x ≠ y → (D.2 ci) x ≠ (D.2 ci) y := by
  intro x y hx hy hne
  obtain ⟨hS, -⟩ := hK.1 ci _ hc.1
  obtain ⟨ca, ka, ia, fa, hia, ea⟩ := hS x hx
  obtain ⟨cb, kb, ib, fb, hib, eb⟩ := hS y hy
  rw [← ea, ← eb]
  rcases hnm x hx y hy hne with q | q
  · refine u_apart (u_lays hts hc.2.2.1 hx) (u_lays hts hc.2.2.1 hy) hia hib ?_
    rw [(State.fieldFound?_type hia (hc.2.2.2 x hx)).1, (State.fieldFound?_type hib (hc.2.2.2 y hy)).1]
    exact q
  · have lx := hts _ (hc.2.2.1 _ (u_in_lay hx))
    have ly := hts _ (hc.2.2.1 _ (u_in_lay hy))
    unfold u_lay at lx ly
    rw [if_pos (hfin x hx)] at lx
    rw [if_pos (hfin y hy)] at ly
    obtain ⟨c1, k1, c1', k1', i1, f1, a1, a2, a3, -, -, -, a4, -, d1, a5, a6, -⟩ := Cond.laysFinal_spec lx
    obtain ⟨c2, k2, c2', k2', i2, f2, b1, b2, b3, -, -, -, b4, -, d2, b5, b6, -⟩ := Cond.laysFinal_spec ly
    cases hia.symm.trans a3
    cases hib.symm.trans b3
    cases a1.symm.trans b1
    intro e
    rw [e] at a5
    cases a5.symm.trans b5
    have n1 := zname a4 (zfound a3)
    have n2 := zname b4 (zfound b3)
    exact q (n1.symm.trans (a6.symm.trans (b6.trans n2)))
section ZPF
variable {p : Program} {l : Launch} {e : Env} {R : Room} {s : State} {m : MethodId} {args : Array Value} {below : List Frame} {meth : Method} {c : Code} {H : Heap} {locs : List Loc} {cells slots : Nat} {Q : State → Prop}
variable {cc : ByteArray} {pc : Nat} {ls : Array Slot} {rest : List Value} {D : va_G} {A : Nat → Prop} {a : Nat} {tys : List (ClassId × FieldType)} {ws : va_W} {H0 : Heap}
theorem zputF (hexec : p.tables.exec = Jvm.exec) (hb : c.code = cc) {own C : String} {T : u_T} {N ci index : Nat} (hts : ∀ w ∈ lw_all, w.before args s = true) (hc : zcls ci C T N) (hap : ∀ x y, x < N → y < N → x ≠ y → (D.2 ci) x ≠ (D.2 ci) y) (hown : s.vm.findClass own = some m.cls) (hK : va_K D zcl tys s) (hP : va_P D zcl ws H) (hD : va_D A ws) (hS0 : va_S A H0 H locs) (q0 : Nat) {fs : List Value} (he : ws[q0]? = some (a, .inr (ci, fs))) (k : Nat) (hk : k < N) (hlink : (Cond.fieldLink own index own (T k).2.1 (T k).2.2.1).before args s = true) (hfin : (T k).2.2.2 = true) (hin2 : meth.name = "<init>") (hdecl : (T k).1 = own) {ty : FieldType} {v : Value} (hd : parseFieldDescriptor (T k).2.2.1 = some ty) (hn : narrow ty v = v) (hfit : fits ty v = true) (hl : k < fs.length)
    (hdg : decode cc pc = .ok (.putfield index, 3)) (kk : ∀ (H1 : Heap) (locs1 : List Loc), va_P D zcl (ws.set q0 (a, .inr (ci, fs.set k v))) H1 → va_D A (ws.set q0 (a, .inr (ci, fs.set k v))) → va_S A H0 H1 locs1 → W p l e R s m args below meth c H1 locs1 cells slots Q (F0 m (pc + 3) ls rest)) : W p l e R s m args below meth c H locs cells slots Q (F0 m pc ls (v :: .ref a :: rest)) := by
  obtain ⟨r, h1, cell, q1, q2, q3, q4⟩ := hP q0 _ he
  cases h1.symm.trans hc.1
  obtain ⟨hS, hfc, kC, hkC, hkind⟩ := hK.1 ci _ hc.1
  obtain ⟨cf, kf, fi, f, hi, hsl⟩ := hS k hk
  have hlay := hts _ (hc.2.2.1 _ (u_in_lay hk))
  unfold u_lay at hlay
  rw [if_pos hfin] at hlay
  have hst := (u_facts hfc hkC (u_lays hts hc.2.2.1 hk) hi).1
  have hcf : m.cls = cf := by
    obtain ⟨_, _, c', _, _, _, -, -, hf', -, -, -, hown2, -⟩ := Cond.laysFinal_spec hlay
    cases hi.symm.trans hf'
    rw [hdecl] at hown2
    exact Option.some.inj (hown.symm.trans hown2)
  have h6 := u_fits hfc hkC hkind (Or.inr hlay) hi hd hn hfit
  refine W.putFinK hexec hb hown hlink (by rw [← hdecl]; exact hi) hst hcf hin2 (by rw [q2]; exact h6) q1 q3 (by rw [hsl]; exact k2_hasslot (q4 k hk)) rfl rfl hdg fun H' e1 e2 e3 => ?_
  rw [hsl] at e1 ⊢
  exact kk H' _ (hP.set hD he ⟨_, hc.1, t_OB.to (V := updV (vp_V fs) k v) ⟨_, e1, q2, q3, t_set q4 hap hk v⟩ (fun j _ => vp_updV_set hl v j)⟩ e3) (hD.set he) (hS0.put e2 e3 (hD.2 q0 _ he))
end ZPF
section ZPJ
variable {own : String} {cc : ByteArray} {nL d pc : Nat} {Z : ZK} {L : Fr} {ts tb : List Bool} {st : List Value} {h : Hp} {rk a b c pb pk : Nat}
theorem zw_putPI {ix c N k a : Nat} {v : Int32} (hX : zx own cc nL d true Z) (hF : zfldP own ix c N k) (hz : zfr c k = false) (hfit : narrow (ztyOf c k) (.int v) = .int v ∧ fits (ztyOf c k) (.int v) = true) (hd : decode cc pc = .ok (.putfield ix, 3)) (ha : h.2.2[a]? = some (c, N)) (kk : zw Z nL (pc + 3) L ts st (zu h.1 a k v, h.2)) : zw Z nL pc L ts (.int v :: .ref a :: st) h := by
  obtain ⟨C, T, hc, hk, hT, hl, hfin, hnm⟩ := hF
  obtain ⟨p, l, e, R, s, m, args, below, meth, co, Q, A, G, cC, cS⟩ := Z
  intro ad H locs ls cells slots hr hlv hok
  have he : (zws G ad h)[a]? = some (ad a, .inr (c, zfs ad h a c N)) := by rw [zws_at ha, zce_obj hc.2.1]
  have ew : (zws G ad h).set a (ad a, .inr (c, (zfs ad h a c N).set k (.int v))) = zws G ad (zu h.1 a k v, h.2) := by
    rw [zfs_set (h2 := (zu h.1 a k v, h.2)) hk (by unfold zfv; rw [hz]; show Value.int (zu h.1 a k v a k) = _; rw [zu_on]; unfold upd; rw [if_pos rfl]) (fun j hj => zfv_u hj), ← zce_obj (G := G) hc.2.1]
    exact zws_up rfl ha (fun j hj => ⟨zu_off hj, rfl⟩)
  refine zputF (v := .int v) hX.1 hX.2.1 hX.2.2.2.2.1 hc (zap (own := own) hX.2.2.2.2.1 hc hfin hnm hX.2.2.2.2.2.1) hX.2.2.2.1 hX.2.2.2.2.2.1 hr.1 hr.2.1 hr.2.2.1 a he k hk (hX.2.2.2.2.1 _ hl) (hfin k hk) (hX.2.2.2.2.2.2.2.2.2.2.2.2.2.2 rfl) hT (hc.2.2.2 k hk) hfit.1 hfit.2 (by rw [zfs_len]; exact hk) hd ?_
  intro H1 locs1 hP hD hS
  rw [ew] at hP hD
  exact kk ad H1 locs1 ls cells slots (zr_st hr rfl (zwf_u hr.2.2.2.1) hP hD hS) hlv (zok_K rfl (zok_tl (zok_tl hok)))
theorem zw_putPR {ix c N k a : Nat} {r : Option Nat} (hX : zx own cc nL d true Z) (hF : zfldP own ix c N k) (hz : zfr c k = true) (hd : decode cc pc = .ok (.putfield ix, 3)) (ha : h.2.2[a]? = some (c, N)) (kk : zw Z nL (pc + 3) L ts st (h.1, zur h.2.1 a k r, h.2.2)) : zw Z nL pc L ts (va_rf r :: .ref a :: st) h := by
  obtain ⟨C, T, hc, hk, hT, hl, hfin, hnm⟩ := hF
  obtain ⟨p, l, e, R, s, m, args, below, meth, co, Q, A, G, cC, cS⟩ := Z
  intro ad H locs ls cells slots hr hlv hok
  have htop := zok_top hok
  have he : (zws G ad h)[a]? = some (ad a, .inr (c, zfs ad h a c N)) := by rw [zws_at ha, zce_obj hc.2.1]
  have ew : (zws G ad h).set a (ad a, .inr (c, (zfs ad h a c N).set k (va_rf (r.map ad)))) = zws G ad (h.1, zur h.2.1 a k r, h.2.2) := by
    rw [zfs_set (h2 := (h.1, zur h.2.1 a k r, h.2.2)) hk (by unfold zfv; rw [if_pos hz]; show va_rf ((zur h.2.1 a k r a k).map ad) = _; rw [zur_on]; unfold va_up; rw [if_pos rfl]) (fun j hj => zfv_ur hj), ← zce_obj (G := G) hc.2.1]
    exact zws_up rfl ha (fun j hj => ⟨rfl, zur_off hj⟩)
  have hnf := znar_ref hz (r.map ad)
  rw [List.map_cons, List.map_cons, zt_rf]
  refine zputF hX.1 hX.2.1 hX.2.2.2.2.1 hc (zap (own := own) hX.2.2.2.2.1 hc hfin hnm hX.2.2.2.2.2.1) hX.2.2.2.1 hX.2.2.2.2.2.1 hr.1 hr.2.1 hr.2.2.1 a he k hk (hX.2.2.2.2.1 _ hl) (hfin k hk) (hX.2.2.2.2.2.2.2.2.2.2.2.2.2.2 rfl) hT (hc.2.2.2 k hk) hnf.1 hnf.2 (by rw [zfs_len]; exact hk) hd ?_
  intro H1 locs1 hP hD hS
  rw [ew] at hP hD
  exact kk ad H1 locs1 ls cells slots (zr_st hr rfl (zwf_ur hr.2.2.2.1 htop) hP hD hS) hlv (zok_K rfl (zok_tl (zok_tl hok)))
theorem zj_ppi {ix q N f : Nat} {fit : Int32 → Bool} {xo : ZR} {e : ZI} (h1 : zj_R own cc nL d true ts 0 a b xo) (h2 : zj_I own cc nL d true ts 1 b c e) (hF : zfldP own ix q N f) (hz : zfr q f = false) (hfit : ∀ v, fit v = true → narrow (ztyOf q f) (.int v) = .int v ∧ fits (ztyOf q f) (.int v) = true) (hd : decode cc c = .ok (.putfield ix, 3)) : zj_S own cc nL d true rk ts tb ts a (c + 3) pb pk (zs_pi q N f fit xo e) := by
  have key : ∀ L h r, zs_pi q N f fit xo e L h = some r → ∃ o h2 v h3, xo L h = some (some o, h2) ∧ e L h2 = some (v, h3) ∧ h3.2.2[o]? = some (q, N) ∧ fit v = true ∧ r = (0, L, (zu h3.1 o f v, h3.2)) := by
    intro L h r ee
    obtain ⟨⟨o, h2⟩, q1, q2⟩ := Option.bind_eq_some_iff.mp ee
    obtain ⟨⟨v, h3⟩, q3, q4⟩ := Option.bind_eq_some_iff.mp q2
    cases o with
    | none => cases q4
    | some o =>
      dsimp only at q3 q4
      by_cases hh : h3.2.2[o]? = some (q, N) ∧ fit v = true
      · rw [if_pos hh] at q4
        cases q4
        exact ⟨o, h2, v, h3, q1, q3, hh.1, hh.2, rfl⟩
      · rw [if_neg hh] at q4
        cases q4
  refine ⟨fun L h r ee => ?_, fun Z hX L h r ee hc k0 _ _ _ _ => ?_⟩
  · obtain ⟨o, h3, v, h4, q1, q2, q3, q4, rfl⟩ := key L h r ee
    exact zle_trans (zle_trans (h1.1 L h _ _ q1) (h2.1 L _ _ _ q2)) (zle_eq rfl)
  · obtain ⟨o, h3, v, h4, q1, q2, q3, q4, rfl⟩ := key L h r ee
    have hc4 : zcap Z h4 := zcap_le (zle_eq rfl) hc
    refine h1.2 Z hX L [] h _ h3 q1 (zcap_le (h2.1 L _ _ _ q2) hc4) (Nat.le_refl 0) ?_
    refine h2.2 Z hX L _ h3 _ h4 q2 hc4 (by rw [zcat_r1]; exact Nat.le_refl 1) ?_
    exact zw_putPI hX hF hz (hfit v q4) hd q3 (k0 rfl)
theorem zj_ppr {ix q N f : Nat} {xo e : ZR} (h1 : zj_R own cc nL d true ts 0 a b xo) (h2 : zj_R own cc nL d true ts 1 b c e) (hF : zfldP own ix q N f) (hz : zfr q f = true) (hd : decode cc c = .ok (.putfield ix, 3)) : zj_S own cc nL d true rk ts tb ts a (c + 3) pb pk (zs_pr q N f xo e) := by
  have key : ∀ L h r, zs_pr q N f xo e L h = some r → ∃ o h2 v h3, xo L h = some (some o, h2) ∧ e L h2 = some (v, h3) ∧ h3.2.2[o]? = some (q, N) ∧ r = (0, L, (h3.1, zur h3.2.1 o f v, h3.2.2)) := by
    intro L h r ee
    obtain ⟨⟨o, h2⟩, q1, q2⟩ := Option.bind_eq_some_iff.mp ee
    obtain ⟨⟨v, h3⟩, q3, q4⟩ := Option.bind_eq_some_iff.mp q2
    cases o with
    | none => cases q4
    | some o =>
      dsimp only at q3 q4
      by_cases hh : h3.2.2[o]? = some (q, N)
      · rw [if_pos hh] at q4
        cases q4
        exact ⟨o, h2, v, h3, q1, q3, hh, rfl⟩
      · rw [if_neg hh] at q4
        cases q4
  refine ⟨fun L h r ee => ?_, fun Z hX L h r ee hc k0 _ _ _ _ => ?_⟩
  · obtain ⟨o, h3, v, h4, q1, q2, q3, rfl⟩ := key L h r ee
    exact zle_trans (zle_trans (h1.1 L h _ _ q1) (h2.1 L _ _ _ q2)) (zle_eq rfl)
  · obtain ⟨o, h3, v, h4, q1, q2, q3, rfl⟩ := key L h r ee
    have hc4 : zcap Z h4 := zcap_le (zle_eq rfl) hc
    refine h1.2 Z hX L [] h _ h3 q1 (zcap_le (h2.1 L _ _ _ q2) hc4) (Nat.le_refl 0) ?_
    refine h2.2 Z hX L _ h3 _ h4 q2 hc4 (by rw [zcat_r1]; exact Nat.le_refl 1) ?_
    exact zw_putPR hX hF hz hd q3 (k0 rfl)
end ZPJ
theorem zft_C : ∀ v : Int32, zfitC v = true → narrow .char (.int v) = .int v ∧ fits .char (.int v) = true := fun v hv => by
  unfold zfitC at hv
  rw [Bool.and_eq_true, decide_eq_true_eq, decide_eq_true_eq] at hv
  have a0 := Int32.not_lt.mp hv.1
  have a2 : v.toBitVec.toInt ≤ 65535 := by
    have := Int32.le_iff_toInt_le.mp hv.2
    exact this
  have a1 : 0 ≤ v.toBitVec.toInt := by
    have := Int32.le_iff_toInt_le.mp a0
    exact this
  rw [BitVec.toInt_eq_toNat_cond] at a1 a2
  have a4 := v.toBitVec.isLt
  have h1 : v.toBitVec.toNat < 65536 := by
    split at a1 <;> split at a2 <;> omega
  constructor
  · show Value.int (v.toUInt32.toUInt16.toUInt32.toInt32) = Value.int v
    congr 1
    apply Int32.toBitVec_inj.mp
    show (v.toBitVec.setWidth 16).setWidth 32 = v.toBitVec
    apply BitVec.eq_of_toNat_eq
    rw [BitVec.toNat_setWidth, BitVec.toNat_setWidth]
    omega
  · show (decide (0 ≤ v) && decide (v ≤ 65535)) = true
    rw [decide_eq_true a0, decide_eq_true hv.2]
    rfl
