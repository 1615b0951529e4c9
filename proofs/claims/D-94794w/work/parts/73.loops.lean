/-! PHASE B: loops. -/
set_option maxRecDepth 100000
/-- goes on: the end of the body, or a continue -/
abbrev zco (k : Nat) : Prop := k = 0 ∨ k = 2
theorem wS_wn {c : ZC} {s u : ZS} {Q : Nat → Fr → Hp → Prop} (I : Nat → Fr → Hp → Prop)
    (step : ∀ n L h, I n L h → wC c L h (fun b h1 => if b = true then wS s L h1 (fun k L' h' => (zco k ∧ wS u L' h' (fun k2 L2 h2 => k2 = 0 ∧ ∃ m, m < n ∧ I m L2 h2)) ∨ (k = 1 ∧ Q 0 L' h') ∨ (¬ zco k ∧ ¬ k = 1 ∧ Q k L' h')) else Q 0 L h1)) :
    ∀ N n L h, n < N → I n L h → wS (zs_wn c s u N) L h Q := by
  intro N
  induction N with
  | zero => intro n L h hn; omega
  | succ N ih =>
    intro n L h hn hI
    obtain ⟨b, h1, e1, q1⟩ := step n L h hI
    cases b with
    | false =>
      refine ⟨0, L, h1, ?_, q1⟩
      show ((c L h).bind _) = _
      rw [e1]
      rfl
    | true =>
      obtain ⟨k, L', h', e2, q2⟩ := q1
      rcases q2 with ⟨hk, k2, L2, h2, e3, rfl, m, hm, hI2⟩ | ⟨rfl, hq⟩ | ⟨hk, hk1, hq⟩
      · obtain ⟨k3, L3, h3, e4, q4⟩ := ih m L2 h2 (by omega) hI2
        refine ⟨k3, L3, h3, ?_, q4⟩
        show ((c L h).bind _) = _
        rw [e1]
        show ((s L h1).bind _) = _
        rw [e2]
        show (if k = 0 ∨ k = 2 then (u L' h').bind _ else _) = _
        rw [if_pos hk, e3]
        exact e4
      · refine ⟨0, L', h', ?_, hq⟩
        show ((c L h).bind _) = _
        rw [e1]
        show ((s L h1).bind _) = _
        rw [e2]
        rfl
      · refine ⟨k, L', h', ?_, hq⟩
        show ((c L h).bind _) = _
        rw [e1]
        show ((s L h1).bind _) = _
        rw [e2]
        show (if k = 0 ∨ k = 2 then (u L' h').bind _ else if k = 1 then some (0, L', h') else some (k, L', h')) = _
        rw [if_neg hk, if_neg hk1]
/-- a loop with a measure -/
theorem w_while {c : ZC} {s u : ZS} {Q : Nat → Fr → Hp → Prop} {L : Fr} {h : Hp} (I : Nat → Fr → Hp → Prop) (n : Nat) (hn : n < 5000) (hI : I n L h)
    (step : ∀ n L h, I n L h → wC c L h (fun b h1 => if b = true then wS s L h1 (fun k L' h' => (zco k ∧ wS u L' h' (fun k2 L2 h2 => k2 = 0 ∧ ∃ m, m < n ∧ I m L2 h2)) ∨ (k = 1 ∧ Q 0 L' h') ∨ (¬ zco k ∧ ¬ k = 1 ∧ Q k L' h')) else Q 0 L h1)) : wS (zs_w c s u) L h Q :=
  wS_wn I step zwN n L h hn hI
/-- for (i = ..; i < n; i++), n as it was -/
theorem w_for {i : Nat} {cB : ZI} {body : ZS} {Q : Nat → Fr → Hp → Prop} {L : Fr} {h : Hp} (I : Nat → Fr → Hp → Prop) (n : Nat) (hn : n < 4000) (a0 : Nat) (ha : a0 ≤ n) (h0 : I a0 L h)
    (hc : ∀ a L h, a ≤ n → I a L h → wI cB L h (fun v h' => v = Int32.ofNat n ∧ h' = h) ∧ L.1 i = Int32.ofNat a)
    (hb : ∀ a L h, a < n → I a L h → wS body L h (fun k L' h' => (zco k ∧ I (a + 1) (upd L'.1 i (L'.1 i + 1), L'.2) h') ∨ (k = 1 ∧ Q 0 L' h') ∨ (¬ zco k ∧ ¬ k = 1 ∧ Q k L' h')))
    (hq : ∀ L h, I n L h → Q 0 L h) : wS (zs_w (zc_cmp zLT (ze_l i) cB) body (zs_inc i 1)) L h Q := by
  refine w_while (fun m L h => ∃ a, a ≤ n ∧ m = n - a ∧ I a L h) (n - a0) (by omega) ⟨a0, ha, rfl, h0⟩ ?_
  rintro m L h ⟨a, han, rfl, hI⟩
  obtain ⟨⟨v, h', e1, rfl, rfl⟩, e2⟩ := hc a L h han hI
  rw [wC_cmp, wI_l]
  refine ⟨_, h', e1, ?_⟩
  rw [e2]
  dsimp only
  by_cases hlt : a < n
  · have e3 : zLT (Int32.ofNat a) (Int32.ofNat n) = true := by
      unfold zLT
      exact decide_eq_true ((zi_lt (by omega) (by omega)).mpr hlt)
    rw [if_pos e3]
    refine wS_mono ?_ (hb a L h' hlt hI)
    intro k L' h2 hh
    rcases hh with ⟨hk, hI2⟩ | hh | hh
    · refine Or.inl ⟨hk, ?_⟩
      rw [wS_inc]
      exact ⟨rfl, n - (a + 1), by omega, a + 1, by omega, rfl, hI2⟩
    · exact Or.inr (Or.inl hh)
    · exact Or.inr (Or.inr hh)
  · have e3 : ¬ zLT (Int32.ofNat a) (Int32.ofNat n) = true := by
      unfold zLT
      rw [decide_eq_true_eq]
      exact fun z => hlt ((zi_lt (by omega) (by omega)).mp z)
    rw [if_neg e3]
    have : a = n := by omega
    subst this
    exact hq L h' hI
/-- two runs -/
def W2 (s1 : ZS) (L1 : Fr) (h1 : Hp) (s2 : ZS) (L2 : Fr) (h2 : Hp) (J : Nat → Fr → Hp → Nat → Fr → Hp → Prop) : Prop := wS s1 L1 h1 (fun k1 L1' h1' => wS s2 L2 h2 (fun k2 L2' h2' => J k1 L1' h1' k2 L2' h2'))
theorem w_lockn {c1 c2 : ZC} {s1 u1 s2 u2 : ZS} {J : Nat → Fr → Hp → Nat → Fr → Hp → Prop} (I : Nat → Fr → Hp → Fr → Hp → Prop)
    (step : ∀ n L1 h1 L2 h2, I n L1 h1 L2 h2 → wC c1 L1 h1 (fun b1 g1 => wC c2 L2 h2 (fun b2 g2 => b1 = b2 ∧ if b1 = true then W2 s1 L1 g1 s2 L2 g2 (fun k1 M1 i1 k2 M2 i2 => (zco k1 ∧ zco k2 ∧ W2 u1 M1 i1 u2 M2 i2 (fun k3 M3 i3 k4 M4 i4 => k3 = 0 ∧ k4 = 0 ∧ ∃ m, m < n ∧ I m M3 i3 M4 i4)) ∨ (k1 = 1 ∧ k2 = 1 ∧ J 0 M1 i1 0 M2 i2) ∨ (k1 = 3 ∧ k2 = 3 ∧ J 3 M1 i1 3 M2 i2)) else J 0 L1 g1 0 L2 g2))) :
    ∀ N n L1 h1 L2 h2, n < N → I n L1 h1 L2 h2 → W2 (zs_wn c1 s1 u1 N) L1 h1 (zs_wn c2 s2 u2 N) L2 h2 J := by
  intro N
  induction N with
  | zero => intro n L1 h1 L2 h2 hn; omega
  | succ N ih =>
    intro n L1 h1 L2 h2 hn hI
    obtain ⟨b, g1, e1, b2, g2, e2, rfl, q1⟩ := step n L1 h1 L2 h2 hI
    cases b with
    | false =>
      refine ⟨0, L1, g1, ?_, 0, L2, g2, ?_, q1⟩
      · show ((c1 L1 h1).bind _) = _
        rw [e1]
        rfl
      · show ((c2 L2 h2).bind _) = _
        rw [e2]
        rfl
    | true =>
      obtain ⟨k1, M1, i1, e3, k2, M2, i2, e4, q2⟩ := q1
      rcases q2 with ⟨hk1, hk2, k3, M3, i3, e5, k4, M4, i4, e6, rfl, rfl, m, hm, hI2⟩ | ⟨rfl, rfl, hq⟩ | ⟨rfl, rfl, hq⟩
      · obtain ⟨k5, M5, i5, e7, k6, M6, i6, e8, q3⟩ := ih m M3 i3 M4 i4 (by omega) hI2
        refine ⟨k5, M5, i5, ?_, k6, M6, i6, ?_, q3⟩
        · show ((c1 L1 h1).bind _) = _
          rw [e1]
          show ((s1 L1 g1).bind _) = _
          rw [e3]
          show (if k1 = 0 ∨ k1 = 2 then (u1 M1 i1).bind _ else _) = _
          rw [if_pos hk1, e5]
          exact e7
        · show ((c2 L2 h2).bind _) = _
          rw [e2]
          show ((s2 L2 g2).bind _) = _
          rw [e4]
          show (if k2 = 0 ∨ k2 = 2 then (u2 M2 i2).bind _ else _) = _
          rw [if_pos hk2, e6]
          exact e8
      · refine ⟨0, M1, i1, ?_, 0, M2, i2, ?_, hq⟩
        · show ((c1 L1 h1).bind _) = _
          rw [e1]
          show ((s1 L1 g1).bind _) = _
          rw [e3]
          rfl
        · show ((c2 L2 h2).bind _) = _
          rw [e2]
          show ((s2 L2 g2).bind _) = _
          rw [e4]
          rfl
      · refine ⟨3, M1, i1, ?_, 3, M2, i2, ?_, hq⟩
        · show ((c1 L1 h1).bind _) = _
          rw [e1]
          show ((s1 L1 g1).bind _) = _
          rw [e3]
          rfl
        · show ((c2 L2 h2).bind _) = _
          rw [e2]
          show ((s2 L2 g2).bind _) = _
          rw [e4]
          rfl
/-- two loops in step -/
theorem w_lock {c1 c2 : ZC} {s1 u1 s2 u2 : ZS} {J : Nat → Fr → Hp → Nat → Fr → Hp → Prop} {L1 : Fr} {h1 : Hp} {L2 : Fr} {h2 : Hp} (I : Nat → Fr → Hp → Fr → Hp → Prop) (n : Nat) (hn : n < 5000) (hI : I n L1 h1 L2 h2)
    (step : ∀ n L1 h1 L2 h2, I n L1 h1 L2 h2 → wC c1 L1 h1 (fun b1 g1 => wC c2 L2 h2 (fun b2 g2 => b1 = b2 ∧ if b1 = true then W2 s1 L1 g1 s2 L2 g2 (fun k1 M1 i1 k2 M2 i2 => (zco k1 ∧ zco k2 ∧ W2 u1 M1 i1 u2 M2 i2 (fun k3 M3 i3 k4 M4 i4 => k3 = 0 ∧ k4 = 0 ∧ ∃ m, m < n ∧ I m M3 i3 M4 i4)) ∨ (k1 = 1 ∧ k2 = 1 ∧ J 0 M1 i1 0 M2 i2) ∨ (k1 = 3 ∧ k2 = 3 ∧ J 3 M1 i1 3 M2 i2)) else J 0 L1 g1 0 L2 g2))) :
    W2 (zs_w c1 s1 u1) L1 h1 (zs_w c2 s2 u2) L2 h2 J := w_lockn I step zwN n L1 h1 L2 h2 hn hI
/-! sums -/
def sumN : Nat → (Nat → Int32) → Int32
  | 0, _ => 0
  | n + 1, t => sumN n t + t n
theorem sumN_congr {n : Nat} {s t : Nat → Int32} (h : ∀ i, i < n → s i = t i) : sumN n s = sumN n t := by
  induction n with
  | zero => rfl
  | succ n ih =>
    show sumN n s + s n = sumN n t + t n
    rw [ih (fun i hi => h i (by omega)), h n (by omega)]
