/-! THE START: what the Statement gives, in the words of parts 21 and 26. -/
set_option maxRecDepth 100000
theorem zarr_prim {args : Array Value} {s : State} {ty : FieldType} (hp : refKind ty = false) (h : (Cond.arrayClass ty).before args s = true) : ∃ cA : ClassId, ArrOfT s cA ty ∧ va_RA s cA ty := by
  obtain ⟨c, k, comp, h1, h2, h3⟩ := Cond.arrayClass_spec h
  refine ⟨c, fun n z => ⟨fun k h => (by cases h), k, h2, comp, h3⟩, ?_⟩
  cases ty <;> first | exact h1 | cases hp
theorem zarr_town {args : Array Value} {s : State} {C : String} (h : (Cond.arrayOver (.object C)).before args s = true) : ∃ cA : ClassId, ArrOfT s cA (.object C) ∧ va_RA s cA (.object C) := by
  obtain ⟨comp, c, k, h1, h2, h3, h4, h5⟩ := Cond.arrayOver_spec h
  exact ⟨c, fun n z => ⟨fun k h => (by cases h), k, h3, comp, h4⟩, k, comp, h3, h4, h1, h5⟩
def ztm (k : Nat) : Term := .string "SnowForSummer" (zsix k)
theorem zlt6 {P : Nat → Prop} (h : P 0 ∧ P 1 ∧ P 2 ∧ P 3 ∧ P 4 ∧ P 5) : ∀ i, i < 6 → P i := by
  intro i hi
  obtain ⟨h0, h1, h2, h3, h4, h5⟩ := h
  rcases (show i = 0 ∨ i = 1 ∨ i = 2 ∨ i = 3 ∨ i = 4 ∨ i = 5 by omega) with rfl | rfl | rfl | rfl | rfl | rfl <;> assumption
theorem zbegin {args : Array Value} {s : State} {b : Nat} (hts0 : ∀ w ∈ lw_tbl, w.before args s = true) (hgv : (Jvm.Cond.and given_1 narrow_1).before args s = true) : ∃ G : ZG, va_K G.1 zcl (ztys G) s ∧ znn s ∧ zew G s ∧ zex G (fun q => s.heap.size ≤ q) s s.heap ∧ G.2.2.1 12 = b ∧ G.2.2.2.2.2 = 0 := by
  have hts : ∀ w ∈ lw_all, w.before args s = true := fun w h => hts0 w (lw_all_tbl h)
  have hs := flat_of_before _ hgv
  have hA : ∀ a : Nat, a < s.heap.size → ¬ (fun q : Nat => s.heap.size ≤ q) a := fun a h => Nat.not_le.mpr h
  obtain ⟨c1, i1, k1⟩ := u_known (C := RX1) (T := TX1) (N := 52) (n := 52) hts0 (fun w h => lw_all_tbl (in_X1 w h)) (hts _ q110)
  obtain ⟨c2, i2, k2⟩ := u_known (C := RX2) (T := TX2) (N := 6) (n := 6) hts0 (fun w h => lw_all_tbl (in_X2 w h)) (hts _ q118)
  obtain ⟨c3, i3, k3⟩ := u_known (C := RX3) (T := TX3) (N := 52) (n := 52) hts0 (fun w h => lw_all_tbl (in_X3 w h)) (hts _ q1034)
  obtain ⟨c5, i5, k5⟩ := u_known (C := RX5) (T := TX5) (N := 3) (n := 3) hts0 (fun w h => lw_all_tbl (in_X5 w h)) (hts _ q488)
  obtain ⟨c6, i6, k6⟩ := u_known (C := RX6) (T := TX6) (N := 3) (n := 3) hts0 (fun w h => lw_all_tbl (in_X6 w h)) (hts _ q507)
  obtain ⟨c7, i7, k7⟩ := u_known (C := RX7) (T := TX7) (N := 3) (n := 3) hts0 (fun w h => lw_all_tbl (in_X7 w h)) (hts _ q522)
  obtain ⟨c8, i8, k8⟩ := u_known (C := RX8) (T := TX8) (N := 5) (n := 5) hts0 (fun w h => lw_all_tbl (in_X8 w h)) (hts _ q542)
  obtain ⟨a0, e0, f0⟩ := zarr_prim (ty := .int) rfl (hts _ q148)
  obtain ⟨a1, e1, f1⟩ := zarr_prim (ty := .byte) rfl (hts _ q459)
  obtain ⟨a2, e2, f2⟩ := zarr_prim (ty := .boolean) rfl (hts _ q1196)
  obtain ⟨a3, e3, f3⟩ := zarr_town (hts0 _ q149)
  obtain ⟨a4, e4, f4⟩ := zarr_prim (ty := .long) rfl (hts _ q1649)
  have hst : ∃ adK adV : Nat → Nat, vk_S 6 zslen zsbyt adK adV (fun q => s.heap.size ≤ q) s s.heap ∧ ∀ i : Nat, i < 6 → (ztm i).eval args s none [] s = some (.ref (adK i)) := by
    refine vk_Sof (zlt6 (by decide)) (zlt6 ⟨?_, ?_, ?_, ?_, ?_, ?_⟩) (zlt6 ⟨?_, ?_, ?_, ?_, ?_, ?_⟩) (zlt6 ⟨?_, ?_, ?_, ?_, ?_, ?_⟩) (zlt6 ⟨?_, ?_, ?_, ?_, ?_, ?_⟩) ?_ ?_ hA
    all_goals first | exact hs _ (by decide +kernel) | skip
    · intro i hi
      rcases (show i = 0 ∨ i = 1 ∨ i = 2 ∨ i = 3 ∨ i = 4 ∨ i = 5 by omega) with rfl | rfl | rfl | rfl | rfl | rfl <;> intro j hj
      · rcases (show j = 0 ∨ j = 1 ∨ j = 2 ∨ j = 3 ∨ j = 4 ∨ j = 5 ∨ j = 6 ∨ j = 7 ∨ j = 8 ∨ j = 9 ∨ j = 10 ∨ j = 11 ∨ j = 12 ∨ j = 13 ∨ j = 14 ∨ j = 15 ∨ j = 16 ∨ j = 17 ∨ j = 18 by have hj : j < 19 := hj; omega) with rfl | rfl | rfl | rfl | rfl | rfl | rfl | rfl | rfl | rfl | rfl | rfl | rfl | rfl | rfl | rfl | rfl | rfl | rfl <;> exact hs _ (by decide +kernel)
      · rcases (show j = 0 ∨ j = 1 ∨ j = 2 ∨ j = 3 ∨ j = 4 ∨ j = 5 ∨ j = 6 ∨ j = 7 by have hj : j < 8 := hj; omega) with rfl | rfl | rfl | rfl | rfl | rfl | rfl | rfl <;> exact hs _ (by decide +kernel)
      · rcases (show j = 0 ∨ j = 1 ∨ j = 2 by have hj : j < 3 := hj; omega) with rfl | rfl | rfl <;> exact hs _ (by decide +kernel)
      · rcases (show j = 0 ∨ j = 1 by have hj : j < 2 := hj; omega) with rfl | rfl <;> exact hs _ (by decide +kernel)
      · rcases (show j = 0 ∨ j = 1 by have hj : j < 2 := hj; omega) with rfl | rfl <;> exact hs _ (by decide +kernel)
      · rcases (show j = 0 ∨ j = 1 ∨ j = 2 ∨ j = 3 by have hj : j < 4 := hj; omega) with rfl | rfl | rfl | rfl <;> exact hs _ (by decide +kernel)
    · intro i j hi hj hij
      rcases (show i = 0 ∨ i = 1 ∨ i = 2 ∨ i = 3 ∨ i = 4 ∨ i = 5 by omega) with rfl | rfl | rfl | rfl | rfl | rfl <;> rcases (show j = 0 ∨ j = 1 ∨ j = 2 ∨ j = 3 ∨ j = 4 ∨ j = 5 by omega) with rfl | rfl | rfl | rfl | rfl | rfl <;> first | exact absurd rfl hij | exact Or.inl (hs _ (by decide +kernel)) | exact Or.inr (hs _ (by decide +kernel))
  obtain ⟨adK, adV, hS, hev⟩ := hst
  refine ⟨((fun k => match k with | 0 => c1 | 1 => c2 | 2 => c3 | 3 => c5 | 4 => c6 | 5 => c7 | _ => c8, fun k => match k with | 0 => i1 | 1 => i2 | 2 => i3 | 3 => i5 | 4 => i6 | 5 => i7 | _ => i8), (fun k => match k with | 0 => a0 | 1 => a1 | 2 => a2 | 3 => a3 | _ => a4), (fun k => if k < 6 then adK k else if k < 12 then adV (k - 6) else b), adV, (fun _ => 0), 0), ⟨?_, ?_⟩, ?_, ⟨?_, ?_, ?_, ?_⟩, ⟨?_, ?_, ?_, ?_⟩, rfl, rfl⟩
  · intro k q hq
    match k, hq with
    | 0, hq => cases hq; exact k1
    | 1, hq => cases hq; exact k2
    | 2, hq => cases hq; exact k3
    | 3, hq => cases hq; exact k5
    | 4, hq => cases hq; exact k6
    | 5, hq => cases hq; exact k7
    | 6, hq => cases hq; exact k8
    | k + 7, hq => simp [zcl] at hq
  · intro k q hq
    match k, hq with
    | 0, hq => cases hq; exact ⟨e0, f0⟩
    | 1, hq => cases hq; exact ⟨e1, f1⟩
    | 2, hq => cases hq; exact ⟨e2, f2⟩
    | 3, hq => cases hq; exact ⟨e3, f3⟩
    | 4, hq => cases hq; exact ⟨e4, f4⟩
    | k + 5, hq => simp at hq
  · intro w hw
    have hon : w.onTables = true := by
      simp only [znw, List.mem_cons, List.not_mem_nil, or_false] at hw
      rcases hw with rfl | rfl | rfl | rfl | rfl | rfl | rfl | rfl | rfl | rfl | rfl | rfl | rfl | rfl | rfl | rfl | rfl | rfl | rfl | rfl | rfl | rfl | rfl | rfl <;> rfl
    refine va_Nw.of (A := args) hon ?_
    simp only [znw, List.mem_cons, List.not_mem_nil, or_false] at hw
    rcases hw with rfl | rfl | rfl | rfl | rfl | rfl | rfl | rfl | rfl | rfl | rfl | rfl | rfl | rfl | rfl | rfl | rfl | rfl | rfl | rfl | rfl | rfl | rfl | rfl
    all_goals first | exact hts0 _ q119 | exact hts0 _ q124 | exact hts0 _ q126 | exact hts0 _ q128 | exact hts0 _ q130 | exact hts0 _ q132 | exact hts0 _ q134 | exact hts0 _ q492 | exact hts0 _ q511 | exact hts0 _ q526 | exact hts0 _ q546 | exact hts0 _ q154 | exact hts0 _ q170 | exact hts0 _ q172 | exact hts0 _ q174 | exact hts0 _ q176 | exact hts0 _ q178 | exact hts0 _ q180 | exact hts0 _ q182 | exact hts0 _ q637 | exact hts0 _ q946 | exact hts0 _ q947 | exact hts0 _ q949 | exact hts0 _ q951
  · refine zlt6 ⟨?_, ?_, ?_, ?_, ?_, ?_⟩
    · exact vk_R.of (A := args) (hts0 _ q367) (hev 0 (by decide))
    · exact vk_R.of (A := args) (hts0 _ q520) (hev 1 (by decide))
    · exact vk_R.of (A := args) (hts0 _ q538) (hev 2 (by decide))
    · exact vk_R.of (A := args) (hts0 _ q539) (hev 3 (by decide))
    · exact vk_R.of (A := args) (hts0 _ q540) (hev 4 (by decide))
    · exact vk_R.of (A := args) (hts0 _ q712) (hev 5 (by decide))
  · intro w hw
    have hon : w.onTables = true := by
      simp only [znw, List.mem_cons, List.not_mem_nil, or_false] at hw
      rcases hw with rfl | rfl | rfl | rfl | rfl | rfl | rfl | rfl | rfl | rfl | rfl | rfl | rfl | rfl | rfl | rfl | rfl | rfl | rfl | rfl | rfl | rfl | rfl | rfl <;> rfl
    refine va_Nw.of (A := args) hon ?_
    simp only [znw, List.mem_cons, List.not_mem_nil, or_false] at hw
    rcases hw with rfl | rfl | rfl | rfl | rfl | rfl | rfl | rfl | rfl | rfl | rfl | rfl | rfl | rfl | rfl | rfl | rfl | rfl | rfl | rfl | rfl | rfl | rfl | rfl
    all_goals first | exact hts0 _ q119 | exact hts0 _ q124 | exact hts0 _ q126 | exact hts0 _ q128 | exact hts0 _ q130 | exact hts0 _ q132 | exact hts0 _ q134 | exact hts0 _ q492 | exact hts0 _ q511 | exact hts0 _ q526 | exact hts0 _ q546 | exact hts0 _ q154 | exact hts0 _ q170 | exact hts0 _ q172 | exact hts0 _ q174 | exact hts0 _ q176 | exact hts0 _ q178 | exact hts0 _ q180 | exact hts0 _ q182 | exact hts0 _ q637 | exact hts0 _ q946 | exact hts0 _ q947 | exact hts0 _ q949 | exact hts0 _ q951
  · exact va_AO.of (hts0 _ q149)
  · intro k hk
    show (if 6 + k < 6 then adK (6 + k) else if 6 + k < 12 then adV (6 + k - 6) else b) = adV k
    rw [if_neg (by omega), if_pos (by omega), show 6 + k - 6 = k by omega]
  · refine ⟨fun i hi => ?_, fun i j hi hj he => ?_⟩
    · have e : (if i < 6 then adK i else if i < 12 then adV (i - 6) else b) = adK i := if_pos hi
      show va_O "java/lang/String" (if i < 6 then adK i else if i < 12 then adV (i - 6) else b) _ _ _ ∧ va_OF _ _ _ _ (if i < 6 then adK i else if i < 12 then adV (i - 6) else b) _ _ _ ∧ va_OF _ _ _ _ (if i < 6 then adK i else if i < 12 then adV (i - 6) else b) _ _ _ ∧ _
      rw [e]
      exact hS.1 i hi
    · have he : (if i < 6 then adK i else if i < 12 then adV (i - 6) else b) = (if j < 6 then adK j else if j < 12 then adV (j - 6) else b) := he
      rw [if_pos hi, if_pos hj] at he
      exact hS.2 i j hi hj he
  · exact va_Zof (hts0 _ q385) (hts _ q93) (va_eqt (hs _ (by decide +kernel))) hA
  · exact vx_Zqof (hts0 _ q971) (hts _ q104) (hs _ (by decide +kernel)) hA
  · exact vx_Zqof (hts0 _ q973) (hts _ q104) (hs _ (by decide +kernel)) hA
