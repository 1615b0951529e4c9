/-! STATEMENTS: their judgements. -/
set_option maxRecDepth 100000
/-- the instruction at pc stores the top into local i, an int -/
def zst_i (own : String) (cc : ByteArray) (nL d : Nat) (ini : Bool) (pc n i : Nat) (ts ts2 : List Bool) : Prop := ∀ Z, zx own cc nL d ini Z → ∀ L st h x, zw Z nL (pc + n) (upd L.1 i x, L.2) ts2 st h → zw Z nL pc L ts (.int x :: st) h
def zst_r (own : String) (cc : ByteArray) (nL d : Nat) (ini : Bool) (pc n i : Nat) (ts ts2 : List Bool) : Prop := ∀ Z, zx own cc nL d ini Z → ∀ L st h r, zw Z nL (pc + n) (L.1, va_up L.2 i r) ts2 st h → zw Z nL pc L ts (va_rf r :: st) h
section ZS1
variable {own : String} {cc : ByteArray} {nL d pc : Nat} {ini : Bool} {off : Int} {rk : Nat} {ts tb ts2 : List Bool} {a b c x pb pk : Nat}
theorem zst_istore_n {n : Fin 4} {i : Nat} (hi : (n : Nat) = i) (hn : i < nL) (hs : ztsto ts i false ts2) (hd : decode cc pc = .ok (.istore_n n, 1)) : zst_i own cc nL d ini pc 1 i ts ts2 := fun _ hX _ _ _ _ kk => zw_istore_n hX hi hn hs hd kk
theorem zst_istore {i : Nat} (hn : i < nL) (hs : ztsto ts i false ts2) (hd : decode cc pc = .ok (.istore i, 2)) : zst_i own cc nL d ini pc 2 i ts ts2 := fun _ hX _ _ _ _ kk => zw_istore hX hn hs hd kk
theorem zst_astore_n {n : Fin 4} {i : Nat} (hi : (n : Nat) = i) (hn : i < nL) (hs : ztsto ts i true ts2) (hd : decode cc pc = .ok (.astore_n n, 1)) : zst_r own cc nL d ini pc 1 i ts ts2 := fun _ hX _ _ _ _ kk => zw_astore_n hX hi hn hs hd kk
theorem zst_astore {i : Nat} (hn : i < nL) (hs : ztsto ts i true ts2) (hd : decode cc pc = .ok (.astore i, 2)) : zst_r own cc nL d ini pc 2 i ts ts2 := fun _ hX _ _ _ _ kk => zw_astore hX hn hs hd kk
theorem zj_skip : zj_S own cc nL d ini rk ts tb ts a a pb pk zs_skip :=
  ⟨fun L h r e => by cases e; exact zle_rfl, fun Z hX L h r e _ k0 _ _ _ _ => by cases e; exact k0 rfl⟩
theorem zj_si {e : ZI} {n i : Nat} (h1 : zj_I own cc nL d ini ts 0 a b e) (ho : zst_i own cc nL d ini b n i ts ts2) : zj_S own cc nL d ini rk ts tb ts2 a (b + n) pb pk (zs_i i e) := by
  refine ⟨fun L h r ee => ?_, fun Z hX L h r ee hc k0 _ _ _ _ => ?_⟩
  · obtain ⟨⟨v, h2⟩, q1, q2⟩ := Option.bind_eq_some_iff.mp ee
    cases q2
    exact h1.1 L h _ _ q1
  · obtain ⟨⟨v, h2⟩, q1, q2⟩ := Option.bind_eq_some_iff.mp ee
    cases q2
    exact h1.2 Z hX L [] h _ _ q1 hc (Nat.le_refl 0) (ho Z hX L [] _ v (k0 rfl))
theorem zj_sr {e : ZR} {n i : Nat} (h1 : zj_R own cc nL d ini ts 0 a b e) (ho : zst_r own cc nL d ini b n i ts ts2) : zj_S own cc nL d ini rk ts tb ts2 a (b + n) pb pk (zs_r i e) := by
  refine ⟨fun L h r ee => ?_, fun Z hX L h r ee hc k0 _ _ _ _ => ?_⟩
  · obtain ⟨⟨v, h2⟩, q1, q2⟩ := Option.bind_eq_some_iff.mp ee
    cases q2
    exact h1.1 L h _ _ q1
  · obtain ⟨⟨v, h2⟩, q1, q2⟩ := Option.bind_eq_some_iff.mp ee
    cases q2
    exact h1.2 Z hX L [] h _ _ q1 hc (Nat.le_refl 0) (ho Z hX L [] _ v (k0 rfl))
theorem zj_inc {i : Nat} {n : Int} {v : Int32} (hn : i < nL) (ht : ts[i]? = some false) (hv : Int32.ofInt n = v) (hd : decode cc a = .ok (.iinc i n, 3)) : zj_S own cc nL d ini rk ts tb ts a (a + 3) pb pk (zs_inc i v) :=
  ⟨fun L h r e => by cases e; exact zle_rfl, fun Z hX L h r e _ k0 _ _ _ _ => by cases e; exact zw_iinc hX hn ht hv hd (k0 rfl)⟩
/-- x.f = e -/
theorem zj_pi {ix q N f : Nat} {fit : Int32 → Bool} {xo : ZR} {e : ZI} (h1 : zj_R own cc nL d ini ts 0 a b xo) (h2 : zj_I own cc nL d ini ts 1 b c e) (hF : zfldW own ix q N f) (hz : zfr q f = false) (hfit : ∀ v, fit v = true → narrow (ztyOf q f) (.int v) = .int v ∧ fits (ztyOf q f) (.int v) = true) (hd : decode cc c = .ok (.putfield ix, 3)) : zj_S own cc nL d ini rk ts tb ts a (c + 3) pb pk (zs_pi q N f fit xo e) := by
  have key : ∀ L h r, zs_pi q N f fit xo e L h = some r → ∃ o h2 v h3, xo L h = some (some o, h2) ∧ e L h2 = some (v, h3) ∧ h3.2.2[o]? = some (q, N) ∧ fit v = true ∧ r = (0, L, (zu h3.1 o f v, h3.2)) := by
    intro L h r ee
    obtain ⟨⟨o, h2⟩, q1, q2⟩ := Option.bind_eq_some_iff.mp ee
    obtain ⟨⟨v, h3⟩, q3, q4⟩ := Option.bind_eq_some_iff.mp q2
    cases o with
    | none => cases q4
    | some o =>
      dsimp only at q3 q4
      by_cases hh : h3.2.2[o]? = some (q, N) ∧ fit v = true
      · rw [if_pos hh] at q4
        cases q4
        exact ⟨o, h2, v, h3, q1, q3, hh.1, hh.2, rfl⟩
      · rw [if_neg hh] at q4
        cases q4
  refine ⟨fun L h r ee => ?_, fun Z hX L h r ee hc k0 _ _ _ _ => ?_⟩
  · obtain ⟨o, h3, v, h4, q1, q2, q3, q4, rfl⟩ := key L h r ee
    exact zle_trans (zle_trans (h1.1 L h _ _ q1) (h2.1 L _ _ _ q2)) (zle_eq rfl)
  · obtain ⟨o, h3, v, h4, q1, q2, q3, q4, rfl⟩ := key L h r ee
    have hc4 : zcap Z h4 := zcap_le (zle_eq rfl) hc
    refine h1.2 Z hX L [] h _ h3 q1 (zcap_le (h2.1 L _ _ _ q2) hc4) (Nat.le_refl 0) ?_
    refine h2.2 Z hX L _ h3 _ h4 q2 hc4 (by rw [zcat_r1]; exact Nat.le_refl 1) ?_
    exact zw_putI hX hF hz (hfit v q4) hd q3 (k0 rfl)
theorem zj_pr {ix q N f : Nat} {xo e : ZR} (h1 : zj_R own cc nL d ini ts 0 a b xo) (h2 : zj_R own cc nL d ini ts 1 b c e) (hF : zfldW own ix q N f ∨ (zfldF own ix q N f ∧ ini = true)) (hz : zfr q f = true) (hd : decode cc c = .ok (.putfield ix, 3)) : zj_S own cc nL d ini rk ts tb ts a (c + 3) pb pk (zs_pr q N f xo e) := by
  have key : ∀ L h r, zs_pr q N f xo e L h = some r → ∃ o h2 v h3, xo L h = some (some o, h2) ∧ e L h2 = some (v, h3) ∧ h3.2.2[o]? = some (q, N) ∧ r = (0, L, (h3.1, zur h3.2.1 o f v, h3.2.2)) := by
    intro L h r ee
    obtain ⟨⟨o, h2⟩, q1, q2⟩ := Option.bind_eq_some_iff.mp ee
    obtain ⟨⟨v, h3⟩, q3, q4⟩ := Option.bind_eq_some_iff.mp q2
    cases o with
    | none => cases q4
    | some o =>
      dsimp only at q3 q4
      by_cases hh : h3.2.2[o]? = some (q, N)
      · rw [if_pos hh] at q4
        cases q4
        exact ⟨o, h2, v, h3, q1, q3, hh, rfl⟩
      · rw [if_neg hh] at q4
        cases q4
  refine ⟨fun L h r ee => ?_, fun Z hX L h r ee hc k0 _ _ _ _ => ?_⟩
  · obtain ⟨o, h3, v, h4, q1, q2, q3, rfl⟩ := key L h r ee
    exact zle_trans (zle_trans (h1.1 L h _ _ q1) (h2.1 L _ _ _ q2)) (zle_eq rfl)
  · obtain ⟨o, h3, v, h4, q1, q2, q3, rfl⟩ := key L h r ee
    have hc4 : zcap Z h4 := zcap_le (zle_eq rfl) hc
    refine h1.2 Z hX L [] h _ h3 q1 (zcap_le (h2.1 L _ _ _ q2) hc4) (Nat.le_refl 0) ?_
    refine h2.2 Z hX L _ h3 _ h4 q2 hc4 (by rw [zcat_r1]; exact Nat.le_refl 1) ?_
    exact zw_putR hX hF hz hd q3 (k0 rfl)
/-- x.f = x.f op e -/
theorem zj_po {ix q N f n : Nat} {op : Int32 → Int32 → Int32} {xo : ZR} {e : ZI} (h1 : zj_R own cc nL d ini ts 0 a b xo) (hdup : decode cc b = .ok (.dup, 1)) (hF : zfldW own ix q N f) (hF0 : zfld own ix q N f) (hz : zfr q f = false) (hfit : ∀ v : Int32, narrow (ztyOf q f) (.int v) = .int v ∧ fits (ztyOf q f) (.int v) = true) (hg : decode cc (b + 1) = .ok (.getfield ix, 3)) (h2 : zj_I own cc nL d ini ts 2 (b + 4) c e) (ho : zop own cc nL d ini c n op) (hd : decode cc (c + n) = .ok (.putfield ix, 3)) : zj_S own cc nL d ini rk ts tb ts a (c + n + 3) pb pk (zs_po q N f op xo e) := by
  have key : ∀ L h r, zs_po q N f op xo e L h = some r → ∃ o h2 v h3, xo L h = some (some o, h2) ∧ h2.2.2[o]? = some (q, N) ∧ e L h2 = some (v, h3) ∧ h3.2.2[o]? = some (q, N) ∧ r = (0, L, (zu h3.1 o f (op (h2.1 o f) v), h3.2)) := by
    intro L h r ee
    obtain ⟨⟨o, h2⟩, q1, q2⟩ := Option.bind_eq_some_iff.mp ee
    cases o with
    | none => cases q2
    | some o =>
      dsimp only at q2
      by_cases hh : h2.2.2[o]? = some (q, N)
      · rw [if_pos hh] at q2
        obtain ⟨⟨v, h3⟩, q3, q4⟩ := Option.bind_eq_some_iff.mp q2
        dsimp only at q3 q4
        by_cases hh2 : h3.2.2[o]? = some (q, N)
        · rw [if_pos hh2] at q4
          cases q4
          exact ⟨o, h2, v, h3, q1, hh, q3, hh2, rfl⟩
        · rw [if_neg hh2] at q4
          cases q4
      · rw [if_neg hh] at q2
        cases q2
  refine ⟨fun L h r ee => ?_, fun Z hX L h r ee hc k0 _ _ _ _ => ?_⟩
  · obtain ⟨o, h3, v, h4, q1, -, q2, q3, rfl⟩ := key L h r ee
    exact zle_trans (zle_trans (h1.1 L h _ _ q1) (h2.1 L _ _ _ q2)) (zle_eq rfl)
  · obtain ⟨o, h3, v, h4, q1, q0, q2, q3, rfl⟩ := key L h r ee
    have hc4 : zcap Z h4 := zcap_le (zle_eq rfl) hc
    refine h1.2 Z hX L [] h _ h3 q1 (zcap_le (h2.1 L _ _ _ q2) hc4) (Nat.le_refl 0) ?_
    refine zw_dup hX (zcat_rf _) hdup ?_
    refine zw_getI hX hF0 hz hg q0 ?_
    refine h2.2 Z hX L _ h3 _ h4 q2 hc4 (by rw [zcat_i1, zcat_r1]; exact Nat.le_refl 2) ?_
    refine ho Z hX L ts _ h4 _ v (by rw [zcat_r1]; exact Nat.le_of_ble_eq_true rfl) ?_
    exact zw_putI hX hF hz (hfit _) hd q3 (k0 rfl)
/-- x.f++ as a value -/
theorem zj_pp {ix q N f k : Nat} {xo : ZR} (h1 : zj_R own cc nL d ini ts k a b xo) (hdup : decode cc b = .ok (.dup, 1)) (hF : zfldW own ix q N f) (hF0 : zfld own ix q N f) (hz : zfr q f = false) (hfit : ∀ v : Int32, narrow (ztyOf q f) (.int v) = .int v ∧ fits (ztyOf q f) (.int v) = true) (hg : decode cc (b + 1) = .ok (.getfield ix, 3)) (hx1 : decode cc (b + 4) = .ok (.dup_x1, 1)) (hi1 : decode cc (b + 5) = .ok (.iconst 1, 1)) (ho : decode cc (b + 6) = .ok (.iadd, 1)) (hd : decode cc (b + 7) = .ok (.putfield ix, 3)) (hk6 : k ≤ 6) : zj_I own cc nL d ini ts k a (b + 10) (ze_pp q N f xo) := by
  have key : ∀ L h v h', ze_pp q N f xo L h = some (v, h') → ∃ o h2, xo L h = some (some o, h2) ∧ h2.2.2[o]? = some (q, N) ∧ v = h2.1 o f ∧ h' = (zu h2.1 o f (h2.1 o f + 1), h2.2) := by
    intro L h v h' ee
    obtain ⟨⟨o, h2⟩, q1, q2⟩ := Option.bind_eq_some_iff.mp ee
    cases o with
    | none => cases q2
    | some o =>
      dsimp only at q2
      by_cases hh : h2.2.2[o]? = some (q, N)
      · rw [if_pos hh] at q2
        cases q2
        exact ⟨o, h2, q1, hh, rfl, rfl⟩
      · rw [if_neg hh] at q2
        cases q2
  refine ⟨fun L h v h' ee => ?_, fun Z hX L st h v h' ee hc hk kk => ?_⟩
  · obtain ⟨o, h2, q1, -, -, rfl⟩ := key L h v h' ee
    exact zle_trans (h1.1 L h _ _ q1) (zle_eq rfl)
  · obtain ⟨o, h2, q1, q0, rfl, rfl⟩ := key L h v h' ee
    have hc4 : zcap Z h2 := zcap_le (zle_eq rfl) hc
    refine h1.2 Z hX L st h _ h2 q1 hc4 hk ?_
    refine zw_dup hX (zcat_rf _) hdup ?_
    refine zw_getI hX hF0 hz hg q0 ?_
    refine zw_dup_x1 hX rfl (zcat_rf _) hx1 ?_
    refine zw_const hX 1 rfl hi1 ?_
    refine zop_iadd ho Z hX L ts _ h2 _ _ (by rw [zcat_r1, zcat_i1]; omega) ?_
    exact zw_putI hX hF hz (hfit _) hd q0 kk
/-- x[i] = e -/
theorem zs_ai_key {kd : Nat} {xo : ZR} {i e : ZI} {L : Fr} {h : Hp} {r : Nat × Fr × Hp} (ee : zs_ai kd xo i e L h = some r) : ∃ o h1 j h2 v h3 n, xo L h = some (some o, h1) ∧ i L h1 = some (j, h2) ∧ e L h2 = some (v, h3) ∧ h3.2.2[o]? = some (kd, n) ∧ zinb j n = true ∧ r = (0, L, (zu h3.1 o j.toNatClampNeg (znar kd v), h3.2)) := by
  obtain ⟨⟨o, h1⟩, q1, q2⟩ := Option.bind_eq_some_iff.mp ee
  obtain ⟨⟨j, h2⟩, q3, q4⟩ := Option.bind_eq_some_iff.mp q2
  obtain ⟨⟨v, h3⟩, q5, q6⟩ := Option.bind_eq_some_iff.mp q4
  cases o with
  | none => cases q6
  | some o =>
    dsimp only at q3 q5 q6
    cases hq : h3.2.2[o]? with
    | none => rw [hq] at q6; cases q6
    | some q =>
      rw [hq] at q6
      dsimp only at q6
      by_cases hh : q.1 = kd ∧ zinb j q.2 = true
      · rw [if_pos hh] at q6
        cases q6
        obtain ⟨q1', q2'⟩ := q
        obtain ⟨rfl, hb⟩ := hh
        exact ⟨o, h1, j, h2, v, h3, q2', q1, q3, q5, hq, hb, rfl⟩
      · rw [if_neg hh] at q6
        cases q6
theorem zj_sai {xo : ZR} {i e : ZI} {c2 : Nat} (h1 : zj_R own cc nL d ini ts 0 a b xo) (h2 : zj_I own cc nL d ini ts 1 b c i) (h3 : zj_I own cc nL d ini ts 2 c c2 e) (hd : decode cc c2 = .ok (.iastore, 1)) : zj_S own cc nL d ini rk ts tb ts a (c2 + 1) pb pk (zs_ai 100 xo i e) := by
  refine ⟨fun L h r ee => ?_, fun Z hX L h r ee hc k0 _ _ _ _ => ?_⟩
  · obtain ⟨o, g1, j, g2, v, g3, n, q1, q2, q3, q4, q5, rfl⟩ := zs_ai_key ee
    exact zle_trans (zle_trans (zle_trans (h1.1 L h _ _ q1) (h2.1 L _ _ _ q2)) (h3.1 L _ _ _ q3)) (zle_eq rfl)
  · obtain ⟨o, g1, j, g2, v, g3, n, q1, q2, q3, q4, q5, rfl⟩ := zs_ai_key ee
    have hc3 : zcap Z g3 := zcap_le (zle_eq rfl) hc
    have hc2 : zcap Z g2 := zcap_le (h3.1 L _ _ _ q3) hc3
    refine h1.2 Z hX L [] h _ g1 q1 (zcap_le (h2.1 L _ _ _ q2) hc2) (Nat.le_refl 0) ?_
    refine h2.2 Z hX L _ g1 _ g2 q2 hc2 (by rw [zcat_r1]; exact Nat.le_refl 1) ?_
    refine h3.2 Z hX L _ g2 _ g3 q3 hc3 (by rw [zcat_i1, zcat_r1]; exact Nat.le_refl 2) ?_
    exact zw_iast hX hd q4 q5 (k0 rfl)
theorem zj_sbi {xo : ZR} {i e : ZI} {c2 : Nat} (h1 : zj_R own cc nL d ini ts 0 a b xo) (h2 : zj_I own cc nL d ini ts 1 b c i) (h3 : zj_I own cc nL d ini ts 2 c c2 e) (hd : decode cc c2 = .ok (.bastore, 1)) : zj_S own cc nL d ini rk ts tb ts a (c2 + 1) pb pk (zs_ai 101 xo i e) := by
  refine ⟨fun L h r ee => ?_, fun Z hX L h r ee hc k0 _ _ _ _ => ?_⟩
  · obtain ⟨o, g1, j, g2, v, g3, n, q1, q2, q3, q4, q5, rfl⟩ := zs_ai_key ee
    exact zle_trans (zle_trans (zle_trans (h1.1 L h _ _ q1) (h2.1 L _ _ _ q2)) (h3.1 L _ _ _ q3)) (zle_eq rfl)
  · obtain ⟨o, g1, j, g2, v, g3, n, q1, q2, q3, q4, q5, rfl⟩ := zs_ai_key ee
    have hc3 : zcap Z g3 := zcap_le (zle_eq rfl) hc
    have hc2 : zcap Z g2 := zcap_le (h3.1 L _ _ _ q3) hc3
    refine h1.2 Z hX L [] h _ g1 q1 (zcap_le (h2.1 L _ _ _ q2) hc2) (Nat.le_refl 0) ?_
    refine h2.2 Z hX L _ g1 _ g2 q2 hc2 (by rw [zcat_r1]; exact Nat.le_refl 1) ?_
    refine h3.2 Z hX L _ g2 _ g3 q3 hc3 (by rw [zcat_i1, zcat_r1]; exact Nat.le_refl 2) ?_
    exact zw_bast hX hd q4 q5 (k0 rfl)
theorem zj_szi {xo : ZR} {i e : ZI} {c2 : Nat} (h1 : zj_R own cc nL d ini ts 0 a b xo) (h2 : zj_I own cc nL d ini ts 1 b c i) (h3 : zj_I own cc nL d ini ts 2 c c2 e) (hd : decode cc c2 = .ok (.bastore, 1)) : zj_S own cc nL d ini rk ts tb ts a (c2 + 1) pb pk (zs_ai 102 xo i e) := by
  refine ⟨fun L h r ee => ?_, fun Z hX L h r ee hc k0 _ _ _ _ => ?_⟩
  · obtain ⟨o, g1, j, g2, v, g3, n, q1, q2, q3, q4, q5, rfl⟩ := zs_ai_key ee
    exact zle_trans (zle_trans (zle_trans (h1.1 L h _ _ q1) (h2.1 L _ _ _ q2)) (h3.1 L _ _ _ q3)) (zle_eq rfl)
  · obtain ⟨o, g1, j, g2, v, g3, n, q1, q2, q3, q4, q5, rfl⟩ := zs_ai_key ee
    have hc3 : zcap Z g3 := zcap_le (zle_eq rfl) hc
    have hc2 : zcap Z g2 := zcap_le (h3.1 L _ _ _ q3) hc3
    refine h1.2 Z hX L [] h _ g1 q1 (zcap_le (h2.1 L _ _ _ q2) hc2) (Nat.le_refl 0) ?_
    refine h2.2 Z hX L _ g1 _ g2 q2 hc2 (by rw [zcat_r1]; exact Nat.le_refl 1) ?_
    refine h3.2 Z hX L _ g2 _ g3 q3 hc3 (by rw [zcat_i1, zcat_r1]; exact Nat.le_refl 2) ?_
    exact zw_zast hX hd q4 q5 (k0 rfl)
/-- x[i] = x[i] op e -/
theorem zj_ao {op : Int32 → Int32 → Int32} {n c2 : Nat} {xo : ZR} {i e : ZI} (h1 : zj_R own cc nL d ini ts 0 a b xo) (h2 : zj_I own cc nL d ini ts 1 b c i) (hdup : decode cc c = .ok (.dup2, 1)) (hl : decode cc (c + 1) = .ok (.iaload, 1)) (h3 : zj_I own cc nL d ini ts 3 (c + 2) c2 e) (ho : zop own cc nL d ini c2 n op) (hd : decode cc (c2 + n) = .ok (.iastore, 1)) : zj_S own cc nL d ini rk ts tb ts a (c2 + n + 1) pb pk (zs_ao op xo i e) := by
  have key : ∀ L h r, zs_ao op xo i e L h = some r → ∃ o h1 j h2 v h3 m, xo L h = some (some o, h1) ∧ i L h1 = some (j, h2) ∧ h2.2.2[o]? = some (100, m) ∧ zinb j m = true ∧ e L h2 = some (v, h3) ∧ h3.2.2[o]? = some (100, m) ∧ r = (0, L, (zu h3.1 o j.toNatClampNeg (op (h2.1 o j.toNatClampNeg) v), h3.2)) := by
    intro L h r ee
    obtain ⟨⟨o, h1⟩, q1, q2⟩ := Option.bind_eq_some_iff.mp ee
    obtain ⟨⟨j, h2⟩, q3, q4⟩ := Option.bind_eq_some_iff.mp q2
    cases o with
    | none => cases q4
    | some o =>
      dsimp only at q3 q4
      cases hq : h2.2.2[o]? with
      | none => rw [hq] at q4; cases q4
      | some q =>
        rw [hq] at q4
        dsimp only at q4
        by_cases hh : q.1 = 100 ∧ zinb j q.2 = true
        · rw [if_pos hh] at q4
          obtain ⟨⟨v, h3⟩, q5, q6⟩ := Option.bind_eq_some_iff.mp q4
          dsimp only at q5 q6
          by_cases hh2 : h3.2.2[o]? = some q
          · rw [if_pos hh2] at q6
            cases q6
            obtain ⟨q1', q2'⟩ := q
            obtain ⟨hq1, hb⟩ := hh
            dsimp only at hq1
            subst hq1
            exact ⟨o, h1, j, h2, v, h3, q2', q1, q3, hq, hb, q5, hh2, rfl⟩
          · rw [if_neg hh2] at q6
            cases q6
        · rw [if_neg hh] at q4
          cases q4
  refine ⟨fun L h r ee => ?_, fun Z hX L h r ee hc k0 _ _ _ _ => ?_⟩
  · obtain ⟨o, g1, j, g2, v, g3, m, q1, q2, q3, q4, q5, q6, rfl⟩ := key L h r ee
    exact zle_trans (zle_trans (zle_trans (h1.1 L h _ _ q1) (h2.1 L _ _ _ q2)) (h3.1 L _ _ _ q5)) (zle_eq rfl)
  · obtain ⟨o, g1, j, g2, v, g3, m, q1, q2, q3, q4, q5, q6, rfl⟩ := key L h r ee
    have hc3 : zcap Z g3 := zcap_le (zle_eq rfl) hc
    have hc2 : zcap Z g2 := zcap_le (h3.1 L _ _ _ q5) hc3
    refine h1.2 Z hX L [] h _ g1 q1 (zcap_le (h2.1 L _ _ _ q2) hc2) (Nat.le_refl 0) ?_
    refine h2.2 Z hX L _ g1 _ g2 q2 hc2 (by rw [zcat_r1]; exact Nat.le_refl 1) ?_
    refine zw_dup2 hX rfl (zcat_rf _) hdup ?_
    refine zw_iald hX hl q3 q4 ?_
    refine h3.2 Z hX L _ g2 _ g3 q5 hc3 (by rw [zcat_i1, zcat_i1, zcat_r1]; exact Nat.le_refl 3) ?_
    refine ho Z hX L ts _ g3 _ v (by rw [zcat_i1, zcat_r1]; exact Nat.le_of_ble_eq_true rfl) ?_
    exact zw_iast hX hd q6 q4 (k0 rfl)
/-- x[i] = e, Towns -/
theorem zj_sar {xo : ZR} {i : ZI} {e : ZR} {c2 : Nat} (h1 : zj_R own cc nL d ini ts 0 a b xo) (h2 : zj_I own cc nL d ini ts 1 b c i) (h3 : zj_R own cc nL d ini ts 2 c c2 e) (hd : decode cc c2 = .ok (.aastore, 1)) : zj_S own cc nL d ini rk ts tb ts a (c2 + 1) pb pk (zs_ar 1 6 xo i e) := by
  have key : ∀ L h r, zs_ar 1 6 xo i e L h = some r → ∃ o h1 j h2 v h3 m, xo L h = some (some o, h1) ∧ i L h1 = some (j, h2) ∧ e L h2 = some (v, h3) ∧ h3.2.2[o]? = some (103, m) ∧ zinb j m = true ∧ (∀ w, v = some w → h3.2.2[w]? = some (1, 6)) ∧ r = (0, L, (h3.1, zur h3.2.1 o j.toNatClampNeg v, h3.2.2)) := by
    intro L h r ee
    obtain ⟨⟨o, h1⟩, q1, q2⟩ := Option.bind_eq_some_iff.mp ee
    obtain ⟨⟨j, h2⟩, q3, q4⟩ := Option.bind_eq_some_iff.mp q2
    obtain ⟨⟨v, h3⟩, q5, q6⟩ := Option.bind_eq_some_iff.mp q4
    cases o with
    | none => cases q6
    | some o =>
      dsimp only at q3 q5 q6
      cases hq : h3.2.2[o]? with
      | none => rw [hq] at q6; cases q6
      | some q =>
        rw [hq] at q6
        dsimp only at q6
        by_cases hh : q.1 = 103 ∧ zinb j q.2 = true
        · rw [if_pos hh] at q6
          obtain ⟨q1', q2'⟩ := q
          obtain ⟨hq1, hb⟩ := hh
          dsimp only at hq1
          subst hq1
          cases v with
          | none =>
            cases q6
            exact ⟨o, h1, j, h2, none, h3, q2', q1, q3, q5, hq, hb, (fun w hw => by cases hw), rfl⟩
          | some w =>
            dsimp only at q6
            by_cases hw : h3.2.2[w]? = some (1, 6)
            · rw [if_pos hw] at q6
              cases q6
              exact ⟨o, h1, j, h2, some w, h3, q2', q1, q3, q5, hq, hb, (fun w' hw' => by cases hw'; exact hw), rfl⟩
            · rw [if_neg hw] at q6
              cases q6
        · rw [if_neg hh] at q6
          cases q6
  refine ⟨fun L h r ee => ?_, fun Z hX L h r ee hc k0 _ _ _ _ => ?_⟩
  · obtain ⟨o, g1, j, g2, v, g3, m, q1, q2, q3, q4, q5, q6, rfl⟩ := key L h r ee
    exact zle_trans (zle_trans (zle_trans (h1.1 L h _ _ q1) (h2.1 L _ _ _ q2)) (h3.1 L _ _ _ q3)) (zle_eq rfl)
  · obtain ⟨o, g1, j, g2, v, g3, m, q1, q2, q3, q4, q5, q6, rfl⟩ := key L h r ee
    have hc3 : zcap Z g3 := zcap_le (zle_eq rfl) hc
    have hc2 : zcap Z g2 := zcap_le (h3.1 L _ _ _ q3) hc3
    refine h1.2 Z hX L [] h _ g1 q1 (zcap_le (h2.1 L _ _ _ q2) hc2) (Nat.le_refl 0) ?_
    refine h2.2 Z hX L _ g1 _ g2 q2 hc2 (by rw [zcat_r1]; exact Nat.le_refl 1) ?_
    refine h3.2 Z hX L _ g2 _ g3 q3 hc3 (by rw [zcat_i1, zcat_r1]; exact Nat.le_refl 2) ?_
    exact zw_aast hX hd q4 q5 q6 (k0 rfl)
/-! control -/
theorem zj_go {s : ZS} {y : Nat} (h1 : zj_S own cc nL d ini rk ts tb ts2 a y pb pk s) (hd : decode cc y = .ok (.goto off, 3)) (ht : (y : Int) + off = (x : Int)) : zj_S own cc nL d ini rk ts tb ts2 a x pb pk s :=
  ⟨h1.1, fun Z hX L h r e hc k0 k1 k2 k3 k4 => h1.2 Z hX L h r e hc (fun q => zw_goto hX ht hd (k0 q)) k1 k2 k3 k4⟩
theorem zj_seq {s1 s2 : ZS} {ts1 : List Bool} (h1 : zj_S own cc nL d ini rk ts tb ts1 a b pb pk s1) (h2 : zj_S own cc nL d ini rk ts1 tb ts2 b x pb pk s2) : zj_S own cc nL d ini rk ts tb ts2 a x pb pk (zs_seq s1 s2) := by
  refine ⟨fun L h r ee => ?_, fun Z hX L h r ee hc k0 k1 k2 k3 k4 => ?_⟩
  · obtain ⟨⟨n, L1, g1⟩, q1, q2⟩ := Option.bind_eq_some_iff.mp ee
    dsimp only at q2
    by_cases hn : n = 0
    · rw [if_pos hn] at q2
      exact zle_trans (h1.1 L h _ q1) (h2.1 L1 g1 _ q2)
    · rw [if_neg hn] at q2
      cases q2
      exact h1.1 L h _ q1
  · obtain ⟨⟨n, L1, g1⟩, q1, q2⟩ := Option.bind_eq_some_iff.mp ee
    dsimp only at q2
    by_cases hn : n = 0
    · rw [if_pos hn] at q2
      subst hn
      exact h1.2 Z hX L h _ q1 (zcap_le (h2.1 L1 g1 _ q2) hc) (fun _ => h2.2 Z hX L1 g1 r q2 hc k0 k1 k2 k3 k4) (fun q => by cases q) (fun q => by cases q) (fun q => by cases q) (fun q => by cases q)
    · rw [if_neg hn] at q2
      cases q2
      exact h1.2 Z hX L h _ q1 hc (fun q => absurd q hn) k1 k2 k3 k4
theorem zj_ife {cd : ZC} {s1 s2 : ZS} {T F : Nat} (h0 : zj_C own cc nL d ini ts 0 a T F cd) (h1 : zj_S own cc nL d ini rk ts tb ts2 T x pb pk s1) (h2 : zj_S own cc nL d ini rk ts tb ts2 F x pb pk s2) : zj_S own cc nL d ini rk ts tb ts2 a x pb pk (zs_if cd s1 s2) := by
  refine ⟨fun L h r ee => ?_, fun Z hX L h r ee hc k0 k1 k2 k3 k4 => ?_⟩
  · obtain ⟨⟨bv, g⟩, q1, q2⟩ := Option.bind_eq_some_iff.mp ee
    cases bv with
    | true => exact zle_trans (h0.1 L h _ _ q1) (h1.1 L g _ q2)
    | false => exact zle_trans (h0.1 L h _ _ q1) (h2.1 L g _ q2)
  · obtain ⟨⟨bv, g⟩, q1, q2⟩ := Option.bind_eq_some_iff.mp ee
    cases bv with
    | true => exact h0.2 Z hX L [] h _ g q1 (zcap_le (h1.1 L g _ q2) hc) (Nat.le_refl 0) (fun _ => h1.2 Z hX L g r q2 hc k0 k1 k2 k3 k4) (fun q => by cases q)
    | false => exact h0.2 Z hX L [] h _ g q1 (zcap_le (h2.1 L g _ q2) hc) (Nat.le_refl 0) (fun q => by cases q) (fun _ => h2.2 Z hX L g r q2 hc k0 k1 k2 k3 k4)
theorem zj_if {cd : ZC} {s1 : ZS} {T : Nat} (h0 : zj_C own cc nL d ini ts 0 a T x cd) (h1 : zj_S own cc nL d ini rk ts tb ts T x pb pk s1) : zj_S own cc nL d ini rk ts tb ts a x pb pk (zs_if cd s1 zs_skip) := zj_ife h0 h1 zj_skip
/-- fewer locals are known behind it -/
theorem zj_blk {s : ZS} {ts1 : List Bool} (hs : ∀ (i : Nat) (bb : Bool), ts2[i]? = some bb → ts1[i]? = some bb) (h1 : zj_S own cc nL d ini rk ts tb ts1 a x pb pk s) : zj_S own cc nL d ini rk ts tb ts2 a x pb pk s :=
  ⟨h1.1, fun Z hX L h r e hc k0 k1 k2 k3 k4 => h1.2 Z hX L h r e hc (fun q => zw_less hs (k0 q)) k1 k2 k3 k4⟩
theorem ztake {l : List Bool} (n : Nat) : ∀ (i : Nat) (bb : Bool), (l.take n)[i]? = some bb → l[i]? = some bb := by
  intro i bb h
  rw [List.getElem?_take] at h
  by_cases hi : i < n
  · rw [if_pos hi] at h
    exact h
  · rw [if_neg hi] at h
    cases h
/-- break, continue: where the jump stands here -/
theorem zj_cnt (hs : ∀ (i : Nat) (bb : Bool), tb[i]? = some bb → ts[i]? = some bb) (hd : decode cc a = .ok (.goto off, 3)) (ht : (a : Int) + off = (pk : Int)) : zj_S own cc nL d ini rk ts tb ts2 a x pb pk zs_cnt :=
  ⟨fun L h r e => by cases e; exact zle_rfl, fun Z hX L h r e _ _ _ k2 _ _ => by cases e; exact zw_goto hX ht hd (zw_less hs (k2 rfl))⟩
theorem zj_brk (hs : ∀ (i : Nat) (bb : Bool), tb[i]? = some bb → ts[i]? = some bb) (hd : decode cc a = .ok (.goto off, 3)) (ht : (a : Int) + off = (pb : Int)) : zj_S own cc nL d ini rk ts tb ts2 a x pb pk zs_brk :=
  ⟨fun L h r e => by cases e; exact zle_rfl, fun Z hX L h r e _ _ k1 _ _ _ => by cases e; exact zw_goto hX ht hd (zw_less hs (k1 rfl))⟩
/-- the place itself is where continue goes -/
theorem zj_cnt0 (hs : ∀ (i : Nat) (bb : Bool), tb[i]? = some bb → ts[i]? = some bb) : zj_S own cc nL d ini rk ts tb ts2 pk x pb pk zs_cnt :=
  ⟨fun L h r e => by cases e; exact zle_rfl, fun Z hX L h r e _ _ _ k2 _ _ => by cases e; exact zw_less hs (k2 rfl)⟩
theorem zj_wn {cd : ZC} {s u : ZS} {T pu : Nat} {tbu : List Bool} {pbu pku : Nat} (h0 : zj_C own cc nL d ini ts 0 a T x cd) (h1 : zj_S own cc nL d ini rk ts ts ts T pu x pu s) (h2 : zj_S own cc nL d ini rk ts tbu ts pu a pbu pku u) : ∀ n, zj_S own cc nL d ini rk ts tb ts a x pb pk (zs_wn cd s u n) := by
  intro n
  induction n with
  | zero =>
    refine ⟨fun L h r e => ?_, fun Z hX L h r e => ?_⟩
    · exact absurd e (by intro q; cases q)
    · exact absurd e (by intro q; cases q)
  | succ n ih =>
    have step : ∀ L h r, zs_wn cd s u (n + 1) L h = some r → (∃ g, cd L h = some (false, g) ∧ r = (0, L, g)) ∨ ∃ g k1 L1 g1, cd L h = some (true, g) ∧ s L g = some (k1, L1, g1) ∧ (((k1 = 0 ∨ k1 = 2) ∧ ∃ L2 g2, u L1 g1 = some (0, L2, g2) ∧ zs_wn cd s u n L2 g2 = some r) ∨ (k1 = 1 ∧ r = (0, L1, g1)) ∨ (¬ (k1 = 0 ∨ k1 = 2) ∧ ¬ k1 = 1 ∧ r = (k1, L1, g1))) := by
      intro L h r ee
      obtain ⟨⟨bv, g⟩, q1, q2⟩ := Option.bind_eq_some_iff.mp ee
      cases bv with
      | false => cases q2; exact Or.inl ⟨g, q1, rfl⟩
      | true =>
        obtain ⟨⟨k1, L1, g1⟩, q3, q4⟩ := Option.bind_eq_some_iff.mp q2
        refine Or.inr ⟨g, k1, L1, g1, q1, q3, ?_⟩
        dsimp only at q4
        by_cases hk : k1 = 0 ∨ k1 = 2
        · rw [if_pos hk] at q4
          obtain ⟨⟨k2, L2, g2⟩, q5, q6⟩ := Option.bind_eq_some_iff.mp q4
          dsimp only at q6
          by_cases hk2 : k2 = 0
          · rw [if_pos hk2] at q6
            subst hk2
            exact Or.inl ⟨hk, L2, g2, q5, q6⟩
          · rw [if_neg hk2] at q6
            cases q6
        · rw [if_neg hk] at q4
          by_cases hk1 : k1 = 1
          · rw [if_pos hk1] at q4
            cases q4
            exact Or.inr (Or.inl ⟨hk1, rfl⟩)
          · rw [if_neg hk1] at q4
            cases q4
            exact Or.inr (Or.inr ⟨hk, hk1, rfl⟩)
    refine ⟨fun L h r ee => ?_, fun Z hX L h r ee hc k0 k1 k2 k3 k4 => ?_⟩
    · rcases step L h r ee with ⟨g, q1, rfl⟩ | ⟨g, kk, L1, g1, q1, q2, ⟨hk, L2, g2, q3, q4⟩ | ⟨hk, rfl⟩ | ⟨hk, hk1, rfl⟩⟩
      · exact h0.1 L h _ _ q1
      · exact zle_trans (zle_trans (h0.1 L h _ _ q1) (h1.1 L g _ q2)) (zle_trans (h2.1 L1 g1 _ q3) (ih.1 L2 g2 _ q4))
      · exact zle_trans (h0.1 L h _ _ q1) (h1.1 L g (kk, L1, g1) q2)
      · exact zle_trans (h0.1 L h _ _ q1) (h1.1 L g (kk, L1, g1) q2)
    · rcases step L h r ee with ⟨g, q1, rfl⟩ | ⟨g, kk, L1, g1, q1, q2, ⟨hk, L2, g2, q3, q4⟩ | ⟨hk, rfl⟩ | ⟨hk, hk1, rfl⟩⟩
      · exact h0.2 Z hX L [] h _ g q1 hc (Nat.le_refl 0) (fun q => by cases q) (fun _ => k0 rfl)
      · have hc2 : zcap Z g2 := zcap_le (ih.1 L2 g2 _ q4) hc
        have hc1 : zcap Z g1 := zcap_le (h2.1 L1 g1 _ q3) hc2
        have go : zw Z nL pu L1 ts [] g1 := h2.2 Z hX L1 g1 _ q3 hc2 (fun _ => ih.2 Z hX L2 g2 r q4 hc k0 k1 k2 k3 k4) (fun q => by cases q) (fun q => by cases q) (fun q => by cases q) (fun q => by cases q)
        refine h0.2 Z hX L [] h _ g q1 (zcap_le (h1.1 L g _ q2) hc1) (Nat.le_refl 0) (fun _ => ?_) (fun q => by cases q)
        refine h1.2 Z hX L g _ q2 hc1 (fun _ => go) (fun q => ?_) (fun _ => go) (fun q => ?_) (fun q => ?_)
        · have q : kk = 1 := q
          omega
        · have q : kk = 3 := q
          omega
        · have q : kk = 4 := q
          omega
      · subst hk
        refine h0.2 Z hX L [] h _ g q1 (zcap_le (h1.1 L g _ q2) hc) (Nat.le_refl 0) (fun _ => ?_) (fun q => by cases q)
        exact h1.2 Z hX L g _ q2 hc (fun q => by cases q) (fun _ => k0 rfl) (fun q => by cases q) (fun q => by cases q) (fun q => by cases q)
      · refine h0.2 Z hX L [] h _ g q1 (zcap_le (h1.1 L g _ q2) hc) (Nat.le_refl 0) (fun _ => ?_) (fun q => by cases q)
        refine h1.2 Z hX L g _ q2 hc (fun q => absurd (Or.inl q) hk) (fun q => absurd q hk1) (fun q => absurd (Or.inr q) hk) k3 k4
theorem zj_w {cd : ZC} {s u : ZS} {T pu : Nat} {tbu : List Bool} {pbu pku : Nat} (h0 : zj_C own cc nL d ini ts 0 a T x cd) (h1 : zj_S own cc nL d ini rk ts ts ts T pu x pu s) (h2 : zj_S own cc nL d ini rk ts tbu ts pu a pbu pku u) : zj_S own cc nL d ini rk ts tb ts a x pb pk (zs_w cd s u) := zj_wn h0 h1 h2 zwN
/-! returns -/
theorem zj_reti {e : ZI} (h1 : zj_I own cc nL d ini ts 0 a b e) (hd : decode cc b = .ok (.ireturn, 1)) : zj_S own cc nL d ini 0 ts tb ts2 a x pb pk (zs_reti e) := by
  refine ⟨fun L h r ee => ?_, fun Z hX L h r ee hc _ _ _ k3 _ => ?_⟩
  · obtain ⟨⟨v, h2⟩, q1, q2⟩ := Option.bind_eq_some_iff.mp ee
    cases q2
    exact h1.1 L h _ _ q1
  · obtain ⟨⟨v, h2⟩, q1, q2⟩ := Option.bind_eq_some_iff.mp ee
    cases q2
    have k := k3 rfl
    unfold zret at k
    rw [if_pos rfl] at k
    refine h1.2 Z hX L [] h _ h2 q1 hc (Nat.le_refl 0) ?_
    obtain ⟨p, l, e, R, s, m, args, below, meth, co, Q, A, G, cC, cS⟩ := Z
    intro ad H locs ls cells slots hr hlv hok
    have k1 := k ad H locs ls cells slots b hr hd
    have e1 : upd L.1 999 v 999 = v := by unfold upd; rw [if_pos rfl]
    dsimp only at k1
    rw [e1] at k1
    exact k1
theorem zj_retr {e : ZR} (h1 : zj_R own cc nL d ini ts 0 a b e) (hd : decode cc b = .ok (.areturn, 1)) : zj_S own cc nL d ini 1 ts tb ts2 a x pb pk (zs_retr e) := by
  refine ⟨fun L h r ee => ?_, fun Z hX L h r ee hc _ _ _ k3 _ => ?_⟩
  · obtain ⟨⟨v, h2⟩, q1, q2⟩ := Option.bind_eq_some_iff.mp ee
    cases q2
    exact h1.1 L h _ _ q1
  · obtain ⟨⟨v, h2⟩, q1, q2⟩ := Option.bind_eq_some_iff.mp ee
    cases q2
    have k := k3 rfl
    unfold zret at k
    rw [if_neg (by decide), if_pos rfl] at k
    refine h1.2 Z hX L [] h _ h2 q1 hc (Nat.le_refl 0) ?_
    obtain ⟨p, l, e, R, s, m, args, below, meth, co, Q, A, G, cC, cS⟩ := Z
    intro ad H locs ls cells slots hr hlv hok
    have e1 : va_up L.2 999 v 999 = v := by unfold va_up; rw [if_pos rfl]
    have k1 := k ad H locs ls cells slots b hr (fun o ho => zok_top hok o (by dsimp only at ho; rw [e1] at ho; exact ho)) hd
    dsimp only at k1
    rw [e1] at k1
    rw [List.map_cons, zt_rf]
    exact k1
theorem zj_ret (hd : decode cc a = .ok (.return_, 1)) : zj_S own cc nL d ini 2 ts tb ts2 a x pb pk zs_ret := by
  refine ⟨fun L h r ee => by cases ee; exact zle_rfl, fun Z hX L h r ee hc _ _ _ k3 _ => ?_⟩
  cases ee
  have k := k3 rfl
  unfold zret at k
  rw [if_neg (by decide), if_neg (by decide)] at k
  obtain ⟨p, l, e, R, s, m, args, below, meth, co, Q, A, G, cC, cS⟩ := Z
  intro ad H locs ls cells slots hr hlv hok
  exact k ad H locs ls cells slots a hr hd
theorem zj_thr (h0 : decode cc a = .ok (.new 235, 3)) (h1 : decode cc (a + 3) = .ok (.dup, 1)) (h2 : decode cc (a + 4) = .ok (.invokespecial 237, 3)) (h3 : decode cc (a + 7) = .ok (.athrow, 1)) : zj_S own cc nL d ini rk ts tb ts2 a x pb pk zs_thr := by
  refine ⟨fun L h r ee => by cases ee; exact zle_rfl, fun Z hX L h r ee hc _ _ _ _ k4 => ?_⟩
  cases ee
  have k := k4 rfl
  obtain ⟨p, l, e, R, s, m, args, below, meth, co, Q, A, G, cC, cS⟩ := Z
  intro ad H locs ls cells slots hr hlv hok
  exact k ad H locs ls cells slots a 235 237 (hlv.1.trans hX.2.2.1.symm) hr h0 h1 h2 h3 ⟨rfl, rfl⟩
end ZS1
