/-! PHASE B: what must hold so that a pure computation ends with Q. -/
set_option maxRecDepth 100000
def wI (e : ZI) (L : Fr) (h : Hp) (Q : Int32 → Hp → Prop) : Prop := ∃ v h', e L h = some (v, h') ∧ Q v h'
def wR (e : ZR) (L : Fr) (h : Hp) (Q : Option Nat → Hp → Prop) : Prop := ∃ v h', e L h = some (v, h') ∧ Q v h'
def wC (e : ZC) (L : Fr) (h : Hp) (Q : Bool → Hp → Prop) : Prop := ∃ v h', e L h = some (v, h') ∧ Q v h'
def wA (e : ZA) (L : Fr) (h : Hp) (Q : List Value → Hp → Prop) : Prop := ∃ v h', e L h = some (v, h') ∧ Q v h'
def wS (s : ZS) (L : Fr) (h : Hp) (Q : Nat → Fr → Hp → Prop) : Prop := ∃ k L' h', s L h = some (k, L', h') ∧ Q k L' h'
def wF (F : Mth) (as : List Value) (h : Hp) (Q : Value → Hp → Prop) : Prop := ∃ v h', F as h = some (v, h') ∧ Q v h'
theorem bs {α β : Type} {o : Option α} {f : α → Option β} {b : β} : o.bind f = some b ↔ ∃ a, o = some a ∧ f a = some b := Option.bind_eq_some_iff
theorem wI_mono {e : ZI} {L : Fr} {h : Hp} {Q Q' : Int32 → Hp → Prop} (hq : ∀ v h', Q v h' → Q' v h') (H : wI e L h Q) : wI e L h Q' := by
  obtain ⟨v, h', e1, e2⟩ := H
  exact ⟨v, h', e1, hq v h' e2⟩
theorem wS_mono {s : ZS} {L : Fr} {h : Hp} {Q Q' : Nat → Fr → Hp → Prop} (hq : ∀ k L' h', Q k L' h' → Q' k L' h') (H : wS s L h Q) : wS s L h Q' := by
  obtain ⟨k, L', h', e1, e2⟩ := H
  exact ⟨k, L', h', e1, hq k L' h' e2⟩
theorem wF_mono {F : Mth} {as : List Value} {h : Hp} {Q Q' : Value → Hp → Prop} (hq : ∀ v h', Q v h' → Q' v h') (H : wF F as h Q) : wF F as h Q' := by
  obtain ⟨v, h', e1, e2⟩ := H
  exact ⟨v, h', e1, hq v h' e2⟩
section WP
variable {L : Fr} {h : Hp} {QI : Int32 → Hp → Prop} {QR : Option Nat → Hp → Prop} {QC : Bool → Hp → Prop} {QA : List Value → Hp → Prop} {QS : Nat → Fr → Hp → Prop} {QF : Value → Hp → Prop}
theorem wI_c {n : Int32} : wI (ze_c n) L h QI ↔ QI n h := ⟨fun ⟨_, _, e, q⟩ => by cases e; exact q, fun q => ⟨_, _, rfl, q⟩⟩
theorem wI_l {i : Nat} : wI (ze_l i) L h QI ↔ QI (L.1 i) h := ⟨fun ⟨_, _, e, q⟩ => by cases e; exact q, fun q => ⟨_, _, rfl, q⟩⟩
theorem wR_n : wR zr_n L h QR ↔ QR none h := ⟨fun ⟨_, _, e, q⟩ => by cases e; exact q, fun q => ⟨_, _, rfl, q⟩⟩
theorem wR_l {i : Nat} : wR (zr_l i) L h QR ↔ QR (L.2 i) h := ⟨fun ⟨_, _, e, q⟩ => by cases e; exact q, fun q => ⟨_, _, rfl, q⟩⟩
theorem wR_str {k : Nat} : wR (zr_str k) L h QR ↔ QR (some (1000000 + k)) h := ⟨fun ⟨_, _, e, q⟩ => by cases e; exact q, fun q => ⟨_, _, rfl, q⟩⟩
theorem wI_g {c n k : Nat} {e : ZR} : wI (ze_g c n k e) L h QI ↔ wR e L h (fun r h' => ∃ a, r = some a ∧ h'.2.2[a]? = some (c, n) ∧ QI (h'.1 a k) h') := by
  constructor
  · rintro ⟨v, h', e1, q⟩
    obtain ⟨⟨r, h2⟩, e2, e3⟩ := bs.mp e1
    cases r with
    | none => cases e3
    | some a =>
      dsimp only at e3
      by_cases hh : h2.2.2[a]? = some (c, n)
      · rw [if_pos hh] at e3
        cases e3
        exact ⟨some a, _, e2, a, rfl, hh, q⟩
      · rw [if_neg hh] at e3
        cases e3
  · rintro ⟨r, h2, e2, a, rfl, hh, q⟩
    refine ⟨_, h2, ?_, q⟩
    unfold ze_g
    rw [e2]
    show (if h2.2.2[a]? = some (c, n) then some (h2.1 a k, h2) else none) = _
    rw [if_pos hh]
theorem wR_g {c n k : Nat} {e : ZR} : wR (zr_g c n k e) L h QR ↔ wR e L h (fun r h' => ∃ a, r = some a ∧ h'.2.2[a]? = some (c, n) ∧ QR (h'.2.1 a k) h') := by
  constructor
  · rintro ⟨v, h', e1, q⟩
    obtain ⟨⟨r, h2⟩, e2, e3⟩ := bs.mp e1
    cases r with
    | none => cases e3
    | some a =>
      dsimp only at e3
      by_cases hh : h2.2.2[a]? = some (c, n)
      · rw [if_pos hh] at e3
        cases e3
        exact ⟨some a, _, e2, a, rfl, hh, q⟩
      · rw [if_neg hh] at e3
        cases e3
  · rintro ⟨r, h2, e2, a, rfl, hh, q⟩
    refine ⟨_, h2, ?_, q⟩
    unfold zr_g
    rw [e2]
    show (if h2.2.2[a]? = some (c, n) then some (h2.2.1 a k, h2) else none) = _
    rw [if_pos hh]
theorem wI_a {kd : Nat} {e : ZR} {i : ZI} : wI (ze_a kd e i) L h QI ↔ wR e L h (fun r h1 => wI i L h1 (fun j h2 => ∃ a n, r = some a ∧ h2.2.2[a]? = some (kd, n) ∧ zinb j n = true ∧ QI (h2.1 a j.toNatClampNeg) h2)) := by
  constructor
  · rintro ⟨v, h', e1, q⟩
    obtain ⟨o, h1, j, n, q1, q2, q3, q4, rfl⟩ := ze_a_key e1
    exact ⟨some o, h1, q1, j, h', q2, o, n, rfl, q3, q4, q⟩
  · rintro ⟨r, h1, e1, j, h2, e2, a, n, rfl, e3, e4, q⟩
    refine ⟨_, h2, ?_, q⟩
    unfold ze_a
    rw [e1]
    show ((i L h1).bind _) = _
    rw [e2]
    show (match h2.2.2[a]? with
      | none => none
      | some q => if q.1 = kd ∧ zinb j q.2 = true then some (h2.1 a j.toNatClampNeg, h2) else none) = _
    rw [e3]
    show (if kd = kd ∧ zinb j n = true then some (h2.1 a j.toNatClampNeg, h2) else none) = _
    rw [if_pos ⟨rfl, e4⟩]
theorem wR_a {e : ZR} {i : ZI} : wR (zr_a e i) L h QR ↔ wR e L h (fun r h1 => wI i L h1 (fun j h2 => ∃ a n, r = some a ∧ h2.2.2[a]? = some (103, n) ∧ zinb j n = true ∧ QR (h2.2.1 a j.toNatClampNeg) h2)) := by
  constructor
  · rintro ⟨v, h', e1, q⟩
    obtain ⟨⟨r, h1⟩, q1, q2⟩ := bs.mp e1
    obtain ⟨⟨j, h2⟩, q3, q4⟩ := bs.mp q2
    cases r with
    | none => cases q4
    | some a =>
      dsimp only at q3 q4
      cases hq : h2.2.2[a]? with
      | none => rw [hq] at q4; cases q4
      | some w =>
        rw [hq] at q4
        dsimp only at q4
        by_cases hh : w.1 = 103 ∧ zinb j w.2 = true
        · rw [if_pos hh] at q4
          cases q4
          obtain ⟨w1, w2⟩ := w
          obtain ⟨rfl, hb⟩ := hh
          exact ⟨some a, h1, q1, j, _, q3, a, w2, rfl, hq, hb, q⟩
        · rw [if_neg hh] at q4
          cases q4
  · rintro ⟨r, h1, e1, j, h2, e2, a, n, rfl, e3, e4, q⟩
    refine ⟨_, h2, ?_, q⟩
    unfold zr_a
    rw [e1]
    show ((i L h1).bind _) = _
    rw [e2]
    show (match h2.2.2[a]? with
      | none => none
      | some q => if q.1 = 103 ∧ zinb j q.2 = true then some (h2.2.1 a j.toNatClampNeg, h2) else none) = _
    rw [e3]
    show (if 103 = 103 ∧ zinb j n = true then some (h2.2.1 a j.toNatClampNeg, h2) else none) = _
    rw [if_pos ⟨rfl, e4⟩]
theorem wI_len {e : ZR} : wI (ze_len e) L h QI ↔ wR e L h (fun r h1 => ∃ a q, r = some a ∧ h1.2.2[a]? = some q ∧ (100 ≤ q.1 ∧ q.1 < 104) ∧ QI (Int32.ofNat q.2) h1) := by
  constructor
  · rintro ⟨v, h', e1, q⟩
    obtain ⟨⟨r, h1⟩, q1, q2⟩ := bs.mp e1
    cases r with
    | none => cases q2
    | some a =>
      dsimp only at q2
      cases hq : h1.2.2[a]? with
      | none => rw [hq] at q2; cases q2
      | some w =>
        rw [hq] at q2
        dsimp only at q2
        by_cases hh : 100 ≤ w.1 ∧ w.1 < 104
        · rw [if_pos hh] at q2
          cases q2
          exact ⟨some a, _, q1, a, w, rfl, hq, hh, q⟩
        · rw [if_neg hh] at q2
          cases q2
  · rintro ⟨r, h1, e1, a, w, rfl, e2, hh, q⟩
    refine ⟨_, h1, ?_, q⟩
    unfold ze_len
    rw [e1]
    show (match h1.2.2[a]? with
      | none => none
      | some q => if 100 ≤ q.1 ∧ q.1 < 104 then some (Int32.ofNat q.2, h1) else none) = _
    rw [e2]
    show (if 100 ≤ w.1 ∧ w.1 < 104 then some (Int32.ofNat w.2, h1) else none) = _
    rw [if_pos hh]
theorem wI_b {f : Int32 → Int32 → Int32} {e1 e2 : ZI} : wI (ze_b f e1 e2) L h QI ↔ wI e1 L h (fun x h1 => wI e2 L h1 (fun y h2 => QI (f x y) h2)) := by
  constructor
  · rintro ⟨v, h', e, q⟩
    obtain ⟨⟨x, h1⟩, q1, q2⟩ := bs.mp e
    obtain ⟨⟨y, h2⟩, q3, q4⟩ := bs.mp q2
    cases q4
    exact ⟨x, h1, q1, y, h2, q3, q⟩
  · rintro ⟨x, h1, q1, y, h2, q2, q⟩
    refine ⟨_, h2, ?_, q⟩
    unfold ze_b
    rw [q1]
    show ((e2 L h1).bind _) = _
    rw [q2]
    rfl
theorem wI_d {f : Int32 → Int32 → Int32} {e1 e2 : ZI} : wI (ze_d f e1 e2) L h QI ↔ wI e1 L h (fun x h1 => wI e2 L h1 (fun y h2 => ¬ y = 0 ∧ QI (f x y) h2)) := by
  constructor
  · rintro ⟨v, h', e, q⟩
    obtain ⟨⟨x, h1⟩, q1, q2⟩ := bs.mp e
    obtain ⟨⟨y, h2⟩, q3, q4⟩ := bs.mp q2
    dsimp only at q4
    by_cases hy : y = 0
    · rw [if_pos hy] at q4
      cases q4
    · rw [if_neg hy] at q4
      cases q4
      exact ⟨x, h1, q1, y, _, q3, hy, q⟩
  · rintro ⟨x, h1, q1, y, h2, q2, hy, q⟩
    refine ⟨_, h2, ?_, q⟩
    unfold ze_d
    rw [q1]
    show ((e2 L h1).bind _) = _
    rw [q2]
    show (if y = 0 then none else some (f x y, h2)) = _
    rw [if_neg hy]
theorem wI_u {f : Int32 → Int32} {e : ZI} : wI (ze_u f e) L h QI ↔ wI e L h (fun x h1 => QI (f x) h1) := by
  constructor
  · rintro ⟨v, h', e1, q⟩
    obtain ⟨⟨x, h1⟩, q1, q2⟩ := bs.mp e1
    cases q2
    exact ⟨x, h1, q1, q⟩
  · rintro ⟨x, h1, q1, q⟩
    refine ⟨_, h1, ?_, q⟩
    unfold ze_u
    rw [q1]
    rfl
theorem wI_t {c : ZC} {e1 e2 : ZI} : wI (ze_t c e1 e2) L h QI ↔ wC c L h (fun b h1 => if b = true then wI e1 L h1 QI else wI e2 L h1 QI) := by
  constructor
  · rintro ⟨v, h', e, q⟩
    obtain ⟨⟨b, h1⟩, q1, q2⟩ := bs.mp e
    refine ⟨b, h1, q1, ?_⟩
    cases b
    · exact ⟨v, h', q2, q⟩
    · exact ⟨v, h', q2, q⟩
  · rintro ⟨b, h1, q1, q⟩
    cases b
    · obtain ⟨v, h', e, q⟩ := q
      exact ⟨v, h', by unfold ze_t; rw [q1]; exact e, q⟩
    · obtain ⟨v, h', e, q⟩ := q
      exact ⟨v, h', by unfold ze_t; rw [q1]; exact e, q⟩
theorem wR_t {c : ZC} {e1 e2 : ZR} : wR (zr_t c e1 e2) L h QR ↔ wC c L h (fun b h1 => if b = true then wR e1 L h1 QR else wR e2 L h1 QR) := by
  constructor
  · rintro ⟨v, h', e, q⟩
    obtain ⟨⟨b, h1⟩, q1, q2⟩ := bs.mp e
    refine ⟨b, h1, q1, ?_⟩
    cases b
    · exact ⟨v, h', q2, q⟩
    · exact ⟨v, h', q2, q⟩
  · rintro ⟨b, h1, q1, q⟩
    cases b
    · obtain ⟨v, h', e, q⟩ := q
      exact ⟨v, h', by unfold zr_t; rw [q1]; exact e, q⟩
    · obtain ⟨v, h', e, q⟩ := q
      exact ⟨v, h', by unfold zr_t; rw [q1]; exact e, q⟩
theorem wI_in {e1 e2 e3 : ZI} : wI (ze_in e1 e2 e3) L h QI ↔ wI e1 L h (fun x h1 => wI e2 L h1 (fun y h2 => wI e3 L h2 (fun z h3 => QI (if y ≤ x ∧ x ≤ z then 1 else 0) h3))) := by
  constructor
  · rintro ⟨v, h', e, q⟩
    obtain ⟨⟨x, h1⟩, q1, q2⟩ := bs.mp e
    obtain ⟨⟨y, h2⟩, q3, q4⟩ := bs.mp q2
    obtain ⟨⟨z, h3⟩, q5, q6⟩ := bs.mp q4
    cases q6
    exact ⟨x, h1, q1, y, h2, q3, z, h3, q5, q⟩
  · rintro ⟨x, h1, q1, y, h2, q2, z, h3, q3, q⟩
    refine ⟨_, h3, ?_, q⟩
    unfold ze_in
    rw [q1]
    show ((e2 L h1).bind _) = _
    rw [q2]
    show ((e3 L h2).bind _) = _
    rw [q3]
    rfl
theorem wI_pp {c n k : Nat} {e : ZR} : wI (ze_pp c n k e) L h QI ↔ wR e L h (fun r h' => ∃ a, r = some a ∧ h'.2.2[a]? = some (c, n) ∧ QI (h'.1 a k) (zu h'.1 a k (h'.1 a k + 1), h'.2)) := by
  constructor
  · rintro ⟨v, h', e1, q⟩
    obtain ⟨⟨r, h2⟩, e2, e3⟩ := bs.mp e1
    cases r with
    | none => cases e3
    | some a =>
      dsimp only at e3
      by_cases hh : h2.2.2[a]? = some (c, n)
      · rw [if_pos hh] at e3
        cases e3
        exact ⟨some a, _, e2, a, rfl, hh, q⟩
      · rw [if_neg hh] at e3
        cases e3
  · rintro ⟨r, h2, e2, a, rfl, hh, q⟩
    refine ⟨_, _, ?_, q⟩
    unfold ze_pp
    rw [e2]
    show (if h2.2.2[a]? = some (c, n) then _ else none) = _
    rw [if_pos hh]
theorem wI_call {F : Mth} {as : ZA} : wI (ze_call F as) L h QI ↔ wA as L h (fun vs h1 => wF F vs h1 (fun v h2 => ∃ x, v = .int x ∧ QI x h2)) := by
  constructor
  · rintro ⟨v, h', e, q⟩
    obtain ⟨⟨vs, h1⟩, q1, q2⟩ := bs.mp e
    obtain ⟨⟨w, h2⟩, q3, q4⟩ := bs.mp q2
    cases w with
    | int w => cases q4; exact ⟨vs, h1, q1, _, _, q3, _, rfl, q⟩
    | _ => cases q4
  · rintro ⟨vs, h1, q1, w, h2, q2, x, rfl, q⟩
    refine ⟨x, h2, ?_, q⟩
    unfold ze_call
    rw [q1]
    show ((F vs h1).bind _) = _
    rw [q2]
    rfl
theorem wR_call {F : Mth} {as : ZA} : wR (zr_call F as) L h QR ↔ wA as L h (fun vs h1 => wF F vs h1 (fun v h2 => ∃ x, v = va_rf x ∧ QR x h2)) := by
  constructor
  · rintro ⟨v, h', e, q⟩
    obtain ⟨⟨vs, h1⟩, q1, q2⟩ := bs.mp e
    obtain ⟨⟨w, h2⟩, q3, q4⟩ := bs.mp q2
    cases w with
    | null => cases q4; exact ⟨vs, h1, q1, .null, h2, q3, none, rfl, q⟩
    | ref w => cases q4; exact ⟨vs, h1, q1, .ref w, h2, q3, some w, rfl, q⟩
    | _ => cases q4
  · rintro ⟨vs, h1, q1, w, h2, q2, x, rfl, q⟩
    refine ⟨x, h2, ?_, q⟩
    unfold zr_call
    rw [q1]
    show ((F vs h1).bind _) = _
    rw [q2]
    cases x <;> rfl
theorem wC_cmp {P : Int32 → Int32 → Bool} {e1 e2 : ZI} : wC (zc_cmp P e1 e2) L h QC ↔ wI e1 L h (fun x h1 => wI e2 L h1 (fun y h2 => QC (P x y) h2)) := by
  constructor
  · rintro ⟨v, h', e, q⟩
    obtain ⟨⟨x, h1⟩, q1, q2⟩ := bs.mp e
    obtain ⟨⟨y, h2⟩, q3, q4⟩ := bs.mp q2
    cases q4
    exact ⟨x, h1, q1, y, h2, q3, q⟩
  · rintro ⟨x, h1, q1, y, h2, q2, q⟩
    refine ⟨_, h2, ?_, q⟩
    unfold zc_cmp
    rw [q1]
    show ((e2 L h1).bind _) = _
    rw [q2]
    rfl
theorem wC_null {e : ZR} : wC (zc_null e) L h QC ↔ wR e L h (fun r h1 => QC r.isNone h1) := by
  constructor
  · rintro ⟨v, h', e1, q⟩
    obtain ⟨⟨x, h1⟩, q1, q2⟩ := bs.mp e1
    cases q2
    exact ⟨x, h1, q1, q⟩
  · rintro ⟨x, h1, q1, q⟩
    refine ⟨_, h1, ?_, q⟩
    unfold zc_null
    rw [q1]
    rfl
theorem wC_not {c : ZC} : wC (zc_not c) L h QC ↔ wC c L h (fun b h1 => QC (!b) h1) := by
  constructor
  · rintro ⟨v, h', e1, q⟩
    obtain ⟨⟨x, h1⟩, q1, q2⟩ := bs.mp e1
    cases q2
    exact ⟨x, h1, q1, q⟩
  · rintro ⟨x, h1, q1, q⟩
    refine ⟨_, h1, ?_, q⟩
    unfold zc_not
    rw [q1]
    rfl
theorem wC_and {c1 c2 : ZC} : wC (zc_and c1 c2) L h QC ↔ wC c1 L h (fun b h1 => if b = true then wC c2 L h1 QC else QC false h1) := by
  constructor
  · rintro ⟨v, h', e, q⟩
    obtain ⟨⟨b, h1⟩, q1, q2⟩ := bs.mp e
    refine ⟨b, h1, q1, ?_⟩
    cases b
    · cases q2; exact q
    · exact ⟨v, h', q2, q⟩
  · rintro ⟨b, h1, q1, q⟩
    cases b
    · exact ⟨false, h1, by unfold zc_and; rw [q1]; rfl, q⟩
    · obtain ⟨v, h', e, q⟩ := q
      exact ⟨v, h', by unfold zc_and; rw [q1]; exact e, q⟩
theorem wC_or {c1 c2 : ZC} : wC (zc_or c1 c2) L h QC ↔ wC c1 L h (fun b h1 => if b = true then QC true h1 else wC c2 L h1 QC) := by
  constructor
  · rintro ⟨v, h', e, q⟩
    obtain ⟨⟨b, h1⟩, q1, q2⟩ := bs.mp e
    refine ⟨b, h1, q1, ?_⟩
    cases b
    · exact ⟨v, h', q2, q⟩
    · cases q2; exact q
  · rintro ⟨b, h1, q1, q⟩
    cases b
    · obtain ⟨v, h', e, q⟩ := q
      exact ⟨v, h', by unfold zc_or; rw [q1]; exact e, q⟩
    · exact ⟨true, h1, by unfold zc_or; rw [q1]; rfl, q⟩
theorem wA_0 : wA za_0 L h QA ↔ QA [] h := ⟨fun ⟨_, _, e, q⟩ => by cases e; exact q, fun q => ⟨_, _, rfl, q⟩⟩
theorem wA_i {as : ZA} {e : ZI} : wA (za_i as e) L h QA ↔ wA as L h (fun vs h1 => wI e L h1 (fun x h2 => QA (vs ++ [.int x]) h2)) := by
  constructor
  · rintro ⟨v, h', e1, q⟩
    obtain ⟨⟨vs, h1⟩, q1, q2⟩ := bs.mp e1
    obtain ⟨⟨x, h2⟩, q3, q4⟩ := bs.mp q2
    cases q4
    exact ⟨vs, h1, q1, x, h2, q3, q⟩
  · rintro ⟨vs, h1, q1, x, h2, q2, q⟩
    refine ⟨_, h2, ?_, q⟩
    unfold za_i
    rw [q1]
    show ((e L h1).bind _) = _
    rw [q2]
    rfl
theorem wA_r {as : ZA} {e : ZR} : wA (za_r as e) L h QA ↔ wA as L h (fun vs h1 => wR e L h1 (fun x h2 => QA (vs ++ [va_rf x]) h2)) := by
  constructor
  · rintro ⟨v, h', e1, q⟩
    obtain ⟨⟨vs, h1⟩, q1, q2⟩ := bs.mp e1
    obtain ⟨⟨x, h2⟩, q3, q4⟩ := bs.mp q2
    cases q4
    exact ⟨vs, h1, q1, x, h2, q3, q⟩
  · rintro ⟨vs, h1, q1, x, h2, q2, q⟩
    refine ⟨_, h2, ?_, q⟩
    unfold za_r
    rw [q1]
    show ((e L h1).bind _) = _
    rw [q2]
    rfl
end WP
