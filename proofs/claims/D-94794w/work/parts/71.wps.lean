/-! PHASE B: the same for statements and methods. -/
set_option maxRecDepth 100000
section WPS
variable {L : Fr} {h : Hp} {QS : Nat → Fr → Hp → Prop} {QF : Value → Hp → Prop}
theorem wS_skip : wS zs_skip L h QS ↔ QS 0 L h := ⟨fun ⟨_, _, _, e, q⟩ => by cases e; exact q, fun q => ⟨_, _, _, rfl, q⟩⟩
theorem wS_brk : wS zs_brk L h QS ↔ QS 1 L h := ⟨fun ⟨_, _, _, e, q⟩ => by cases e; exact q, fun q => ⟨_, _, _, rfl, q⟩⟩
theorem wS_cnt : wS zs_cnt L h QS ↔ QS 2 L h := ⟨fun ⟨_, _, _, e, q⟩ => by cases e; exact q, fun q => ⟨_, _, _, rfl, q⟩⟩
theorem wS_ret : wS zs_ret L h QS ↔ QS 3 L h := ⟨fun ⟨_, _, _, e, q⟩ => by cases e; exact q, fun q => ⟨_, _, _, rfl, q⟩⟩
theorem wS_thr : wS zs_thr L h QS ↔ QS 4 L h := ⟨fun ⟨_, _, _, e, q⟩ => by cases e; exact q, fun q => ⟨_, _, _, rfl, q⟩⟩
theorem wS_inc {i : Nat} {n : Int32} : wS (zs_inc i n) L h QS ↔ QS 0 (upd L.1 i (L.1 i + n), L.2) h := ⟨fun ⟨_, _, _, e, q⟩ => by cases e; exact q, fun q => ⟨_, _, _, rfl, q⟩⟩
theorem wS_seq {a b : ZS} : wS (zs_seq a b) L h QS ↔ wS a L h (fun k L' h' => if k = 0 then wS b L' h' QS else QS k L' h') := by
  constructor
  · rintro ⟨k, L', h', e, q⟩
    obtain ⟨⟨k1, L1, h1⟩, q1, q2⟩ := bs.mp e
    refine ⟨k1, L1, h1, q1, ?_⟩
    dsimp only at q2
    by_cases hk : k1 = 0
    · rw [if_pos hk] at q2
      rw [if_pos hk]
      exact ⟨k, L', h', q2, q⟩
    · rw [if_neg hk] at q2
      cases q2
      rw [if_neg hk]
      exact q
  · rintro ⟨k1, L1, h1, q1, q⟩
    by_cases hk : k1 = 0
    · rw [if_pos hk] at q
      obtain ⟨k, L', h', q2, q⟩ := q
      refine ⟨k, L', h', ?_, q⟩
      unfold zs_seq
      rw [q1]
      show (if k1 = 0 then b L1 h1 else some (k1, L1, h1)) = _
      rw [if_pos hk, q2]
    · rw [if_neg hk] at q
      refine ⟨k1, L1, h1, ?_, q⟩
      unfold zs_seq
      rw [q1]
      show (if k1 = 0 then b L1 h1 else some (k1, L1, h1)) = _
      rw [if_neg hk]
theorem wS_if {c : ZC} {a b : ZS} : wS (zs_if c a b) L h QS ↔ wC c L h (fun v h1 => if v = true then wS a L h1 QS else wS b L h1 QS) := by
  constructor
  · rintro ⟨k, L', h', e, q⟩
    obtain ⟨⟨v, h1⟩, q1, q2⟩ := bs.mp e
    refine ⟨v, h1, q1, ?_⟩
    cases v
    · exact ⟨k, L', h', q2, q⟩
    · exact ⟨k, L', h', q2, q⟩
  · rintro ⟨v, h1, q1, q⟩
    cases v
    · obtain ⟨k, L', h', e, q⟩ := q
      exact ⟨k, L', h', by unfold zs_if; rw [q1]; exact e, q⟩
    · obtain ⟨k, L', h', e, q⟩ := q
      exact ⟨k, L', h', by unfold zs_if; rw [q1]; exact e, q⟩
theorem wS_i {i : Nat} {e : ZI} : wS (zs_i i e) L h QS ↔ wI e L h (fun v h1 => QS 0 (upd L.1 i v, L.2) h1) := by
  constructor
  · rintro ⟨k, L', h', e1, q⟩
    obtain ⟨⟨v, h1⟩, q1, q2⟩ := bs.mp e1
    cases q2
    exact ⟨v, _, q1, q⟩
  · rintro ⟨v, h1, q1, q⟩
    exact ⟨_, _, _, by unfold zs_i; rw [q1]; rfl, q⟩
theorem wS_r {i : Nat} {e : ZR} : wS (zs_r i e) L h QS ↔ wR e L h (fun v h1 => QS 0 (L.1, va_up L.2 i v) h1) := by
  constructor
  · rintro ⟨k, L', h', e1, q⟩
    obtain ⟨⟨v, h1⟩, q1, q2⟩ := bs.mp e1
    cases q2
    exact ⟨v, _, q1, q⟩
  · rintro ⟨v, h1, q1, q⟩
    exact ⟨_, _, _, by unfold zs_r; rw [q1]; rfl, q⟩
theorem wS_reti {e : ZI} : wS (zs_reti e) L h QS ↔ wI e L h (fun v h1 => QS 3 (upd L.1 999 v, L.2) h1) := by
  constructor
  · rintro ⟨k, L', h', e1, q⟩
    obtain ⟨⟨v, h1⟩, q1, q2⟩ := bs.mp e1
    cases q2
    exact ⟨v, _, q1, q⟩
  · rintro ⟨v, h1, q1, q⟩
    exact ⟨_, _, _, by unfold zs_reti; rw [q1]; rfl, q⟩
theorem wS_retr {e : ZR} : wS (zs_retr e) L h QS ↔ wR e L h (fun v h1 => QS 3 (L.1, va_up L.2 999 v) h1) := by
  constructor
  · rintro ⟨k, L', h', e1, q⟩
    obtain ⟨⟨v, h1⟩, q1, q2⟩ := bs.mp e1
    cases q2
    exact ⟨v, _, q1, q⟩
  · rintro ⟨v, h1, q1, q⟩
    exact ⟨_, _, _, by unfold zs_retr; rw [q1]; rfl, q⟩
theorem wS_pi {c n k : Nat} {fit : Int32 → Bool} {x : ZR} {e : ZI} : wS (zs_pi c n k fit x e) L h QS ↔ wR x L h (fun r h1 => wI e L h1 (fun v h2 => ∃ a, r = some a ∧ h2.2.2[a]? = some (c, n) ∧ fit v = true ∧ QS 0 L (zu h2.1 a k v, h2.2))) := by
  constructor
  · rintro ⟨k', L', h', e1, q⟩
    obtain ⟨⟨r, h1⟩, q1, q2⟩ := bs.mp e1
    obtain ⟨⟨v, h2⟩, q3, q4⟩ := bs.mp q2
    cases r with
    | none => cases q4
    | some a =>
      dsimp only at q3 q4
      by_cases hh : h2.2.2[a]? = some (c, n) ∧ fit v = true
      · rw [if_pos hh] at q4
        cases q4
        exact ⟨some a, h1, q1, v, h2, q3, a, rfl, hh.1, hh.2, q⟩
      · rw [if_neg hh] at q4
        cases q4
  · rintro ⟨r, h1, q1, v, h2, q2, a, rfl, e1, e2, q⟩
    refine ⟨_, _, _, ?_, q⟩
    unfold zs_pi
    rw [q1]
    show ((e L h1).bind _) = _
    rw [q2]
    show (if h2.2.2[a]? = some (c, n) ∧ fit v = true then _ else none) = _
    rw [if_pos ⟨e1, e2⟩]
theorem wS_pr {c n k : Nat} {x e : ZR} : wS (zs_pr c n k x e) L h QS ↔ wR x L h (fun r h1 => wR e L h1 (fun v h2 => ∃ a, r = some a ∧ h2.2.2[a]? = some (c, n) ∧ QS 0 L (h2.1, zur h2.2.1 a k v, h2.2.2))) := by
  constructor
  · rintro ⟨k', L', h', e1, q⟩
    obtain ⟨⟨r, h1⟩, q1, q2⟩ := bs.mp e1
    obtain ⟨⟨v, h2⟩, q3, q4⟩ := bs.mp q2
    cases r with
    | none => cases q4
    | some a =>
      dsimp only at q3 q4
      by_cases hh : h2.2.2[a]? = some (c, n)
      · rw [if_pos hh] at q4
        cases q4
        exact ⟨some a, h1, q1, v, h2, q3, a, rfl, hh, q⟩
      · rw [if_neg hh] at q4
        cases q4
  · rintro ⟨r, h1, q1, v, h2, q2, a, rfl, e1, q⟩
    refine ⟨_, _, _, ?_, q⟩
    unfold zs_pr
    rw [q1]
    show ((e L h1).bind _) = _
    rw [q2]
    show (if h2.2.2[a]? = some (c, n) then _ else none) = _
    rw [if_pos e1]
theorem wS_po {c n k : Nat} {f : Int32 → Int32 → Int32} {x : ZR} {e : ZI} : wS (zs_po c n k f x e) L h QS ↔ wR x L h (fun r h1 => ∃ a, r = some a ∧ h1.2.2[a]? = some (c, n) ∧ wI e L h1 (fun v h2 => h2.2.2[a]? = some (c, n) ∧ QS 0 L (zu h2.1 a k (f (h1.1 a k) v), h2.2))) := by
  constructor
  · rintro ⟨k', L', h', e1, q⟩
    obtain ⟨⟨r, h1⟩, q1, q2⟩ := bs.mp e1
    cases r with
    | none => cases q2
    | some a =>
      dsimp only at q2
      by_cases hh : h1.2.2[a]? = some (c, n)
      · rw [if_pos hh] at q2
        obtain ⟨⟨v, h2⟩, q3, q4⟩ := bs.mp q2
        dsimp only at q3 q4
        by_cases h3 : h2.2.2[a]? = some (c, n)
        · rw [if_pos h3] at q4
          cases q4
          exact ⟨some a, h1, q1, a, rfl, hh, v, h2, q3, h3, q⟩
        · rw [if_neg h3] at q4
          cases q4
      · rw [if_neg hh] at q2
        cases q2
  · rintro ⟨r, h1, q1, a, rfl, e1, v, h2, q2, e2, q⟩
    refine ⟨_, _, _, ?_, q⟩
    unfold zs_po
    rw [q1]
    show (if h1.2.2[a]? = some (c, n) then (e L h1).bind _ else none) = _
    rw [if_pos e1, q2]
    show (if h2.2.2[a]? = some (c, n) then _ else none) = _
    rw [if_pos e2]
theorem wS_ai {kd : Nat} {x : ZR} {i e : ZI} : wS (zs_ai kd x i e) L h QS ↔ wR x L h (fun r h1 => wI i L h1 (fun j h2 => wI e L h2 (fun v h3 => ∃ a n, r = some a ∧ h3.2.2[a]? = some (kd, n) ∧ zinb j n = true ∧ QS 0 L (zu h3.1 a j.toNatClampNeg (znar kd v), h3.2)))) := by
  constructor
  · rintro ⟨k', L', h', e1, q⟩
    obtain ⟨o, h1, j, h2, v, h3, n, q1, q2, q3, q4, q5, e2⟩ := zs_ai_key e1
    cases e2
    exact ⟨some o, h1, q1, j, h2, q2, v, h3, q3, o, n, rfl, q4, q5, q⟩
  · rintro ⟨r, h1, q1, j, h2, q2, v, h3, q3, a, n, rfl, q4, q5, q⟩
    refine ⟨_, _, _, ?_, q⟩
    unfold zs_ai
    rw [q1]
    show ((i L h1).bind _) = _
    rw [q2]
    show ((e L h2).bind _) = _
    rw [q3]
    show (match h3.2.2[a]? with
      | none => none
      | some q => if q.1 = kd ∧ zinb j q.2 = true then some (0, L, (zu h3.1 a j.toNatClampNeg (znar kd v), h3.2)) else none) = _
    rw [q4]
    show (if kd = kd ∧ zinb j n = true then _ else none) = _
    rw [if_pos ⟨rfl, q5⟩]
theorem wS_ao {f : Int32 → Int32 → Int32} {x : ZR} {i e : ZI} : wS (zs_ao f x i e) L h QS ↔ wR x L h (fun r h1 => wI i L h1 (fun j h2 => ∃ a n, r = some a ∧ h2.2.2[a]? = some (100, n) ∧ zinb j n = true ∧ wI e L h2 (fun v h3 => h3.2.2[a]? = some (100, n) ∧ QS 0 L (zu h3.1 a j.toNatClampNeg (f (h2.1 a j.toNatClampNeg) v), h3.2)))) := by
  constructor
  · rintro ⟨k', L', h', e1, q⟩
    obtain ⟨⟨o, h1⟩, q1, q2⟩ := bs.mp e1
    obtain ⟨⟨j, h2⟩, q3, q4⟩ := bs.mp q2
    cases o with
    | none => cases q4
    | some o =>
      dsimp only at q3 q4
      cases hq : h2.2.2[o]? with
      | none => rw [hq] at q4; cases q4
      | some w =>
        rw [hq] at q4
        dsimp only at q4
        by_cases hh : w.1 = 100 ∧ zinb j w.2 = true
        · rw [if_pos hh] at q4
          obtain ⟨⟨v, h3⟩, q5, q6⟩ := bs.mp q4
          dsimp only at q5 q6
          by_cases hh2 : h3.2.2[o]? = some w
          · rw [if_pos hh2] at q6
            cases q6
            obtain ⟨w1, w2⟩ := w
            obtain ⟨hw, hb⟩ := hh
            dsimp only at hw
            subst hw
            exact ⟨some o, h1, q1, j, h2, q3, o, w2, rfl, hq, hb, v, h3, q5, hh2, q⟩
          · rw [if_neg hh2] at q6
            cases q6
        · rw [if_neg hh] at q4
          cases q4
  · rintro ⟨r, h1, q1, j, h2, q2, a, n, rfl, q4, q5, v, h3, q3, q6, q⟩
    refine ⟨_, _, _, ?_, q⟩
    unfold zs_ao
    rw [q1]
    show ((i L h1).bind _) = _
    rw [q2]
    show (match h2.2.2[a]? with
      | none => none
      | some q => if q.1 = 100 ∧ zinb j q.2 = true then (e L h2).bind fun v => if v.2.2.2[a]? = some q then some (0, L, (zu v.2.1 a j.toNatClampNeg (f (h2.1 a j.toNatClampNeg) v.1), v.2.2)) else none else none) = _
    rw [q4]
    show (if 100 = 100 ∧ zinb j n = true then (e L h2).bind fun v => if v.2.2.2[a]? = some (100, n) then some (0, L, (zu v.2.1 a j.toNatClampNeg (f (h2.1 a j.toNatClampNeg) v.1), v.2.2)) else none else none) = _
    rw [if_pos ⟨rfl, q5⟩, q3]
    show (if h3.2.2[a]? = some (100, n) then _ else none) = _
    rw [if_pos q6]
theorem wS_call {F : Mth} {as : ZA} : wS (zs_call F as) L h QS ↔ wA as L h (fun vs h1 => wF F vs h1 (fun _ h2 => QS 0 L h2)) := by
  constructor
  · rintro ⟨k', L', h', e1, q⟩
    obtain ⟨vs, h1, v, h2, q1, q2, e2⟩ := zs_call_key e1
    cases e2
    exact ⟨vs, h1, q1, v, _, q2, q⟩
  · rintro ⟨vs, h1, q1, v, h2, q2, q⟩
    refine ⟨_, _, _, ?_, q⟩
    unfold zs_call
    rw [q1]
    show ((F vs h1).bind _) = _
    rw [q2]
    rfl
theorem wS_cs {e : ZI} {f : Int32 → ZS} : wS (zs_cs e f) L h QS ↔ wI e L h (fun v h1 => wS (f v) L h1 QS) := by
  constructor
  · rintro ⟨k, L', h', e1, q⟩
    obtain ⟨⟨v, h1⟩, q1, q2⟩ := bs.mp e1
    exact ⟨v, h1, q1, k, L', h', q2, q⟩
  · rintro ⟨v, h1, q1, k, L', h', q2, q⟩
    exact ⟨k, L', h', by unfold zs_cs; rw [q1]; exact q2, q⟩
theorem wS_copy {x y : ZR} {e : ZI} : wS (zs_copy x y e) L h QS ↔ wR x L h (fun r h1 => wR y L h1 (fun t h2 => wI e L h2 (fun v h3 => ∃ a b na nb, r = some a ∧ t = some b ∧ h3.2.2[a]? = some (100, na) ∧ h3.2.2[b]? = some (100, nb) ∧ ¬ v < 0 ∧ v.toNatClampNeg ≤ na ∧ v.toNatClampNeg ≤ nb ∧ QS 0 L (zrow h3.1 b (va_cpy (h3.1 a) (h3.1 b) 0 0 v.toNatClampNeg), h3.2)))) := by
  constructor
  · rintro ⟨k', L', h', e1, q⟩
    obtain ⟨⟨o, h1⟩, q1, q2⟩ := bs.mp e1
    obtain ⟨⟨t, h2⟩, q3, q4⟩ := bs.mp q2
    obtain ⟨⟨v, h3⟩, q5, q6⟩ := bs.mp q4
    cases o with
    | none => cases q6
    | some o =>
      cases t with
      | none => cases q6
      | some t =>
        dsimp only at q3 q5 q6
        cases ha : h3.2.2[o]? with
        | none => rw [ha] at q6; cases q6
        | some qa =>
          cases hb : h3.2.2[t]? with
          | none => rw [ha, hb] at q6; cases q6
          | some qb =>
            rw [ha, hb] at q6
            dsimp only at q6
            by_cases hh : qa.1 = 100 ∧ qb.1 = 100 ∧ ¬ v < 0 ∧ v.toNatClampNeg ≤ qa.2 ∧ v.toNatClampNeg ≤ qb.2
            · rw [if_pos hh] at q6
              cases q6
              obtain ⟨qa1, qa2⟩ := qa
              obtain ⟨qb1, qb2⟩ := qb
              obtain ⟨t1, t2, t3, t4, t5⟩ := hh
              dsimp only at t1 t2 t4 t5
              subst t1
              subst t2
              exact ⟨some o, h1, q1, some t, h2, q3, v, h3, q5, o, t, qa2, qb2, rfl, rfl, ha, hb, t3, t4, t5, q⟩
            · rw [if_neg hh] at q6
              cases q6
  · rintro ⟨r, h1, q1, t, h2, q2, v, h3, q3, a, b, na, nb, rfl, rfl, e1, e2, e3, e4, e5, q⟩
    refine ⟨_, _, _, ?_, q⟩
    unfold zs_copy
    rw [q1]
    show ((y L h1).bind _) = _
    rw [q2]
    show ((e L h2).bind _) = _
    rw [q3]
    show (match h3.2.2[a]?, h3.2.2[b]? with
      | some qa, some qb => if qa.1 = 100 ∧ qb.1 = 100 ∧ ¬ v < 0 ∧ v.toNatClampNeg ≤ qa.2 ∧ v.toNatClampNeg ≤ qb.2 then some (0, L, (zrow h3.1 b (va_cpy (h3.1 a) (h3.1 b) 0 0 v.toNatClampNeg), h3.2)) else none
      | _, _ => none) = _
    rw [e1, e2]
    show (if 100 = 100 ∧ 100 = 100 ∧ ¬ v < 0 ∧ v.toNatClampNeg ≤ na ∧ v.toNatClampNeg ≤ nb then _ else none) = _
    rw [if_pos ⟨rfl, rfl, e3, e4, e5⟩]
/-! methods -/
theorem wF_vt {c n o : Nat} {F : Mth} {as : List Value} : wF (zvt c n F) (.ref o :: as) h QF ↔ h.2.2[o]? = some (c, n) ∧ wF F (.ref o :: as) h QF := by
  constructor
  · rintro ⟨v, h', e, q⟩
    obtain ⟨e1, o', r', e2, e3⟩ := zvt_key e
    cases e2
    exact ⟨e3, v, h', e1, q⟩
  · rintro ⟨e3, v, h', e1, q⟩
    refine ⟨v, h', ?_, q⟩
    show (if h.2.2[o]? = some (c, n) then F (.ref o :: as) h else none) = _
    rw [if_pos e3, e1]
theorem wF_i {ts : List Bool} {fit : Int32 → Bool} {b : ZS} {as : List Value} : wF (zm_i ts fit b) as h QF ↔ zty ts as = true ∧ wS b (zf as) h (fun k L' h' => k = 3 ∧ fit (L'.1 999) = true ∧ QF (.int (L'.1 999)) h') := by
  constructor
  · rintro ⟨v, h', e, q⟩
    unfold zm_i at e
    by_cases ht : zty ts as = true
    · rw [if_pos ht] at e
      obtain ⟨⟨k, L', h2⟩, q1, q2⟩ := bs.mp e
      dsimp only at q2
      by_cases hh : k = 3 ∧ fit (L'.1 999) = true
      · rw [if_pos hh] at q2
        cases q2
        exact ⟨ht, k, L', _, q1, hh.1, hh.2, q⟩
      · rw [if_neg hh] at q2
        cases q2
    · rw [if_neg ht] at e
      cases e
  · rintro ⟨ht, k, L', h2, q1, e1, e2, q⟩
    refine ⟨_, h2, ?_, q⟩
    unfold zm_i
    rw [if_pos ht, q1]
    show (if k = 3 ∧ fit (L'.1 999) = true then _ else none) = _
    rw [if_pos ⟨e1, e2⟩]
theorem wF_r {ts : List Bool} {b : ZS} {as : List Value} : wF (zm_r ts b) as h QF ↔ zty ts as = true ∧ wS b (zf as) h (fun k L' h' => k = 3 ∧ QF (va_rf (L'.2 999)) h') := by
  constructor
  · rintro ⟨v, h', e, q⟩
    unfold zm_r at e
    by_cases ht : zty ts as = true
    · rw [if_pos ht] at e
      obtain ⟨⟨k, L', h2⟩, q1, q2⟩ := bs.mp e
      dsimp only at q2
      by_cases hh : k = 3
      · rw [if_pos hh] at q2
        cases q2
        exact ⟨ht, k, L', _, q1, hh, q⟩
      · rw [if_neg hh] at q2
        cases q2
    · rw [if_neg ht] at e
      cases e
  · rintro ⟨ht, k, L', h2, q1, e1, q⟩
    refine ⟨_, h2, ?_, q⟩
    unfold zm_r
    rw [if_pos ht, q1]
    show (if k = 3 then _ else none) = _
    rw [if_pos e1]
theorem wF_v {ts : List Bool} {b : ZS} {as : List Value} : wF (zm_v ts b) as h QF ↔ zty ts as = true ∧ wS b (zf as) h (fun k _ h' => (k = 0 ∨ k = 3) ∧ QF (.int 0) h') := by
  constructor
  · rintro ⟨v, h', e, q⟩
    unfold zm_v at e
    by_cases ht : zty ts as = true
    · rw [if_pos ht] at e
      obtain ⟨⟨k, L', h2⟩, q1, q2⟩ := bs.mp e
      dsimp only at q2
      by_cases hh : k = 0 ∨ k = 3
      · rw [if_pos hh] at q2
        cases q2
        exact ⟨ht, k, L', _, q1, hh, q⟩
      · rw [if_neg hh] at q2
        cases q2
    · rw [if_neg ht] at e
      cases e
  · rintro ⟨ht, k, L', h2, q1, e1, q⟩
    refine ⟨_, h2, ?_, q⟩
    unfold zm_v
    rw [if_pos ht, q1]
    show (if k = 0 ∨ k = 3 then _ else none) = _
    rw [if_pos e1]
theorem wF_eq {F : Mth} {as : List Value} {v : Value} {h' : Hp} (e : F as h = some (v, h')) : wF F as h QF ↔ QF v h' := by
  constructor
  · rintro ⟨v2, h2, e2, q⟩
    cases e.symm.trans e2
    exact q
  · exact fun q => ⟨v, h', e, q⟩
end WPS
/-! frames of arguments -/
theorem zfi_s {v : Value} {vs : List Value} {i : Nat} : zf_i (v :: vs) (i + 1) = zf_i vs i := by
  unfold zf_i
  rw [List.getElem?_cons_succ]
theorem zfi_0 {x : Int32} {vs : List Value} : zf_i (.int x :: vs) 0 = x := rfl
theorem zfr_s {v : Value} {vs : List Value} {i : Nat} : zf_r (v :: vs) (i + 1) = zf_r vs i := by
  unfold zf_r
  rw [List.getElem?_cons_succ]
theorem zfr_0 {x : Nat} {vs : List Value} : zf_r (.ref x :: vs) 0 = some x := rfl
theorem upd_self {f : Nat → Int32} {k : Nat} {x : Int32} : upd f k x k = x := by unfold upd; rw [if_pos rfl]
theorem upd_ne {f : Nat → Int32} {k j : Nat} {x : Int32} (h : j ≠ k) : upd f k x j = f j := by unfold upd; rw [if_neg h]
