/-! THE MACHINE SIDE: what it means that the machine stands at a pure frame and heap; one row an instruction. -/
set_option maxRecDepth 100000
abbrev zcl : List vw_C := [(RX1, TX1, 52), (RX2, TX2, 6), (RX3, TX3, 52), (RX5, TX5, 3), (RX6, TX6, 3), (RX7, TX7, 3), (RX8, TX8, 5)]
def ztyOf (c k : Nat) : FieldType := match c with
  | 0 => tyX1 k
  | 1 => tyX2 k
  | 2 => tyX3 k
  | 3 => tyX5 k
  | 4 => tyX6 k
  | 5 => tyX7 k
  | _ => tyX8 k
/-- is field k of class c a reference? -/
def zfr (c k : Nat) : Bool := match ztyOf c k with
  | .object _ => true
  | .array _ => true
  | _ => false
/-- the classes' numbers and slots; the array classes (int, byte, boolean, Town); the six texts' addresses and their bytes'; the addresses that the objects had when the method began, and how many they were -/
abbrev ZG : Type := va_G × (Nat → ClassId) × (Nat → Nat) × (Nat → Nat) × (Nat → Nat) × Nat
abbrev ztys (G : ZG) : List (ClassId × FieldType) := [(G.2.1 0, .int), (G.2.1 1, .byte), (G.2.1 2, .boolean), (G.2.1 3, .object RX2), (G.2.1 4, .long)]
def zfv (ad : Nat → Nat) (h : Hp) (i c k : Nat) : Value := if zfr c k = true then va_rf ((h.2.1 i k).map ad) else .int (h.1 i k)
def zfs (ad : Nat → Nat) (h : Hp) (i c n : Nat) : List Value := (List.range n).map (zfv ad h i c)
def zce (G : ZG) (ad : Nat → Nat) (h : Hp) (i : Nat) (kd : Nat × Nat) : va_E :=
  if kd.1 < 100 then .inr (kd.1, zfs ad h i kd.1 kd.2)
  else if kd.1 = 103 then .inl (G.2.1 3, kd.2, .inr (.inr (.inr (.inr (fun j => (h.2.1 i j).map ad)))))
  else if kd.1 = 104 then .inl (G.2.1 4, kd.2, .inr (.inl (fun j => (h.1 i j).toInt64)))
  else .inl (G.2.1 (kd.1 - 100), kd.2, .inl (h.1 i))
def zws (G : ZG) (ad : Nat → Nat) (h : Hp) : va_W := h.2.2.mapIdx (fun i kd => (ad i, zce G ad h i kd))
theorem zws_at {G : ZG} {ad : Nat → Nat} {h : Hp} {i : Nat} {kd : Nat × Nat} (hk : h.2.2[i]? = some kd) : (zws G ad h)[i]? = some (ad i, zce G ad h i kd) := by
  unfold zws
  rw [List.getElem?_mapIdx, hk]
  rfl
theorem zws_inv {G : ZG} {ad : Nat → Nat} {h : Hp} {i : Nat} {q : Nat × va_E} (hk : (zws G ad h)[i]? = some q) : ∃ kd, h.2.2[i]? = some kd ∧ q = (ad i, zce G ad h i kd) := by
  unfold zws at hk
  rw [List.getElem?_mapIdx] at hk
  cases hc : h.2.2[i]? with
  | none => rw [hc] at hk; cases hk
  | some kd => rw [hc] at hk; cases hk; exact ⟨kd, rfl, rfl⟩
/-- a number that is an object's, or a text's -/
def zid (h : Hp) (a : Nat) : Prop := a < h.2.2.length ∨ (1000000 ≤ a ∧ a < 1000013)
theorem zid_le {h1 h2 : Hp} {a : Nat} (hle : zle h1 h2) (h : zid h1 a) : zid h2 a := by
  rcases h with h | h
  · exact Or.inl (Nat.lt_of_lt_of_le h (zle_len hle))
  · exact Or.inr h
def zwf (h : Hp) : Prop := ∀ i k a, h.2.1 i k = some a → zid h a
def zt (ad : Nat → Nat) (v : Value) : Value := match v with
  | .ref a => .ref (ad a)
  | v => v
theorem zt_rf (ad : Nat → Nat) (r : Option Nat) : zt ad (va_rf r) = va_rf (r.map ad) := by cases r <;> rfl
theorem zt_cat (ad : Nat → Nat) (v : Value) : (zt ad v).category = v.category := by cases v <;> rfl
/-- the locals that are set, by their types (false: int, true: reference) -/
def zlv (ad : Nat → Nat) (L : Fr) (ts : List Bool) : List (Nat × Value) := ts.mapIdx (fun i b => (i, if b = true then va_rf ((L.2 i).map ad) else .int (L.1 i)))
/-- what stands in locals and on the stack is an object's number -/
def zok (h : Hp) (L : Fr) (ts : List Bool) (st : List Value) : Prop := (∀ i a, ts[i]? = some true → L.2 i = some a → zid h a) ∧ ∀ a, Value.ref a ∈ st → zid h a
/-- the machine's heap H is the pure heap h, by the addresses ad -/
def zr (G : ZG) (A : Nat → Prop) (s : State) (R : Room) (cC cS : Nat) (ad : Nat → Nat) (h : Hp) (H : Heap) (locs : List Loc) (cells slots : Nat) : Prop :=
  va_P G.1 zcl (zws G ad h) H ∧ va_D A (zws G ad h) ∧ va_S A s.heap H locs ∧ zwf h ∧ (∀ k, k < 13 → ad (1000000 + k) = G.2.2.1 k) ∧ cells + cC ≤ R.cells + h.2.2.length ∧ slots + cS ≤ R.slots + zsum h.2.2 ∧ h.2.2.length ≤ cC ∧ zsum h.2.2 ≤ cS ∧ (∀ a, a < G.2.2.2.2.2 → ad a = G.2.2.2.2.1 a) ∧ G.2.2.2.2.2 ≤ h.2.2.length
abbrev ZK : Type := Program × Launch × Env × Room × State × MethodId × Array Value × List Frame × Method × Code × (State → Prop) × (Nat → Prop) × ZG × Nat × Nat
/-- the machine comes to its end from this place, frame, stack and heap, wherever the objects lie -/
def zw (Z : ZK) (nL pc : Nat) (L : Fr) (ts : List Bool) (st : List Value) (h : Hp) : Prop :=
  match Z with
  | (p, l, e, R, s, m, args, below, meth, c, Q, A, G, cC, cS) => ∀ (ad : Nat → Nat) (H : Heap) (locs : List Loc) (ls : Array Slot) (cells slots : Nat), zr G A s R cC cS ad h H locs cells slots → lv_has ls nL (zlv ad L ts) → zok h L ts st → W p l e R s m args below meth c H locs cells slots Q (F0 m pc ls (st.map (zt ad)))
/-- words that hold but don't ride in the lists: nest mates' links -/
def znw : List Cond := [
  .methodLinkNest "SnowForSummer" 11 ⟨"SnowForSummer$Town", "<init>", "()V"⟩ "SnowForSummer",
  .fieldLinkNest "SnowForSummer" 238 "SnowForSummer$Town" "snow" "[I" "SnowForSummer",
  .fieldLinkNest "SnowForSummer" 241 "SnowForSummer$Town" "path" "[I" "SnowForSummer",
  .fieldLinkNest "SnowForSummer" 275 "SnowForSummer$Town" "debt" "[I" "SnowForSummer",
  .fieldLinkNest "SnowForSummer" 324 "SnowForSummer$Town" "newly" "[I" "SnowForSummer",
  .fieldLinkNest "SnowForSummer" 297 "SnowForSummer$Town" "day" "I" "SnowForSummer",
  .fieldLinkNest "SnowForSummer" 285 "SnowForSummer$Town" "slid" "I" "SnowForSummer",
  .methodLinkNest "SnowForSummer$Less" 7 ⟨"SnowForSummer$Node", "<init>", "(LSnowForSummer;)V"⟩ "SnowForSummer",
  .methodLinkNest "SnowForSummer$Number" 7 ⟨"SnowForSummer$Node", "<init>", "(LSnowForSummer;)V"⟩ "SnowForSummer",
  .methodLinkNest "SnowForSummer$Sign" 7 ⟨"SnowForSummer$Node", "<init>", "(LSnowForSummer;)V"⟩ "SnowForSummer",
  .methodLinkNest "SnowForSummer$Act" 7 ⟨"SnowForSummer$Node", "<init>", "(LSnowForSummer;)V"⟩ "SnowForSummer",
  .fieldLinkNest "SnowForSummer$Sign" 28 "SnowForSummer" "hold" "[I" "SnowForSummer",
  .fieldLinkNest "SnowForSummer$Sign" 17 "SnowForSummer" "askedDeep" "I" "SnowForSummer",
  .fieldLinkNest "SnowForSummer$Sign" 22 "SnowForSummer" "askedPath" "I" "SnowForSummer",
  .fieldLinkNest "SnowForSummer$Sign" 25 "SnowForSummer" "askedThaw" "I" "SnowForSummer",
  .fieldLinkNest "SnowForSummer$Sign" 35 "SnowForSummer" "askedDay" "I" "SnowForSummer",
  .fieldLinkNest "SnowForSummer$Sign" 38 "SnowForSummer" "askedLoose" "I" "SnowForSummer",
  .fieldLinkNest "SnowForSummer$Sign" 32 "SnowForSummer" "askedHouse" "I" "SnowForSummer",
  .fieldLinkNest "SnowForSummer$Sign" 41 "SnowForSummer" "askedBelow" "I" "SnowForSummer",
  .declares ⟨"SnowForSummer$Node", "value", "()I"⟩,
  .castable "java/util/NoSuchElementException" "java/util/NoSuchElementException",
  .declares ⟨"java/lang/RuntimeException", "<init>", "()V"⟩,
  .declares ⟨"java/lang/Exception", "<init>", "()V"⟩,
  .declares ⟨"java/lang/Throwable", "<init>", "()V"⟩]
def znn (U : State) : Prop := ∀ w ∈ znw, va_Nw w U
theorem znn_warm {s U : State} (hW : s.WarmedH U.vm) (h : znn s) : znn U := by
  intro w hw
  have h1 := h w hw
  simp only [znw, List.mem_cons, List.not_mem_nil, or_false] at hw
  rcases hw with rfl | rfl | rfl | rfl | rfl | rfl | rfl | rfl | rfl | rfl | rfl | rfl | rfl | rfl | rfl | rfl | rfl | rfl | rfl | rfl | rfl | rfl | rfl | rfl <;>
    first | exact va_Nw.warmF hW h1 | exact va_Nw.warmM hW h1 | exact va_Nw.warmD hW h1 | exact va_Nw.warmC hW h1
theorem znn_same {s U : State} (hv : s.vm = U.vm) (h : znn s) : znn U := by
  intro w hw
  have h1 := h w hw
  refine va_Nw.same ?_ hv h1
  simp only [znw, List.mem_cons, List.not_mem_nil, or_false] at hw
  rcases hw with rfl | rfl | rfl | rfl | rfl | rfl | rfl | rfl | rfl | rfl | rfl | rfl | rfl | rfl | rfl | rfl | rfl | rfl | rfl | rfl | rfl | rfl | rfl | rfl <;> rfl
/-- the six texts: their places in the class' pool, themselves, their lengths and bytes -/
def zsix (k : Nat) : Nat := match k with
  | 0 => 176
  | 1 => 207
  | 2 => 216
  | 3 => 218
  | 4 => 220
  | _ => 367
def zstx (k : Nat) : String := match k with
  | 0 => "0123456789abcdefghi"
  | 1 => "dptonxhb"
  | 2 => "<>="
  | 3 => "+-"
  | 4 => "*/"
  | _ => "scld"
def zslen : List Nat := [19, 8, 3, 2, 2, 4]
def zsbyt : List (List Int32) := [[48, 49, 50, 51, 52, 53, 54, 55, 56, 57, 97, 98, 99, 100, 101, 102, 103, 104, 105], [100, 112, 116, 111, 110, 120, 104, 98], [60, 62, 61], [43, 45], [42, 47], [115, 99, 108, 100]]
/-- what stands in the heap beside the objects, and stays: texts, statics -/
def zex (G : ZG) (A : Nat → Prop) (U : State) (H : Heap) : Prop := vk_S 6 zslen zsbyt G.2.2.1 G.2.2.2.1 A U H ∧ va_Z "java/lang/String" "COMPACT_STRINGS" "Z" (.int 1) A U H ∧ vx_Zq Bundle.tN "UNASSIGNED_STACK" Bundle.steD A U H ∧ vx_Zq Bundle.tN "SUPPRESSED_SENTINEL" Bundle.listD A U H
theorem zex_moved {G : ZG} {A : Nat → Prop} {u U : State} {H : Heap} (hvm : u.vm.Alike U.vm) (h : zex G A u H) : zex G A U H := ⟨h.1.moved hvm, h.2.1.moved hvm, h.2.2.1.moved hvm, h.2.2.2.moved hvm⟩
theorem zex_kept {G : ZG} {A : Nat → Prop} {U : State} {H H1 : Heap} (h : zex G A U H) (hq : ∀ a : Nat, a < H.size → ¬ A a → H1[a]? = H[a]?) : zex G A U H1 := ⟨h.1.kept hq, h.2.1.kept hq, h.2.2.1.kept hq, h.2.2.2.kept hq⟩
theorem zex_narrow {G : ZG} {A B : Nat → Prop} {U : State} {H : Heap} (h : zex G A U H) (hAB : ∀ q, B q → A q) : zex G B U H := ⟨h.1.narrow hAB, h.2.1.narrow hAB, h.2.2.1.narrow hAB, h.2.2.2.narrow hAB⟩
/-- what the tables say beside the words, and stays -/
def zew (G : ZG) (U : State) : Prop := (∀ k, k < 6 → vk_R "SnowForSummer" (zsix k) (zstx k) (G.2.2.1 k) U) ∧ znn U ∧ va_AO RX2 U ∧ ∀ k, k < 6 → G.2.2.1 (6 + k) = G.2.2.2.1 k
theorem zew_warm {G : ZG} {s U : State} (hW : s.WarmedH U.vm) (h : zew G s) : zew G U := ⟨fun k hk => (h.1 k hk).warm hW, znn_warm hW h.2.1, h.2.2.1.moved hW.alike, h.2.2.2⟩
theorem zew_same {G : ZG} {s U : State} (hv : s.vm = U.vm) (h : zew G s) : zew G U := ⟨fun k hk => (h.1 k hk).same hv.symm, znn_same hv h.2.1, h.2.2.1.moved (by rw [← hv]; exact Vm.Alike.refl _), h.2.2.2⟩
/-- what a method's walk rests on: its class, code, size of locals, the depth of calls that it may make -/
def zx (own : String) (cc : ByteArray) (nL d : Nat) (ini : Bool) (Z : ZK) : Prop :=
  match Z with
  | (p, l, e, R, s, m, args, below, meth, c, Q, A, G, cC, cS) => p.tables.exec = Jvm.exec ∧ c.code = cc ∧ c.maxLocals = nL ∧ s.vm.findClass own = some m.cls ∧ (∀ w ∈ lw_all, w.before args s = true) ∧ va_K G.1 zcl (ztys G) s ∧ znn s ∧ zew G s ∧ zex G A s s.heap ∧ (∀ q, s.heap.size ≤ q → A q) ∧ d ≤ R.frames ∧ 64 * d ≤ R.locals ∧ cC ≤ 1000000 ∧ meth.locks = false ∧ (ini = true → meth.name = "<init>")
/-- room for what the heap h holds -/
def zcap (Z : ZK) (h : Hp) : Prop :=
  match Z with
  | (_, _, _, _, _, _, _, _, _, _, _, _, _, cC, cS) => h.2.2.length ≤ cC ∧ zsum h.2.2 ≤ cS
theorem zcap_le {Z : ZK} {a b : Hp} (h : zle a b) (hb : zcap Z b) : zcap Z a := by
  obtain ⟨p, l, e, R, s, m, args, below, meth, c, Q, A, G, cC, cS⟩ := Z
  exact ⟨Nat.le_trans (zle_len h) hb.1, Nat.le_trans (zle_sum h) hb.2⟩
/-- how heavy a stack is -/
def zwt (st : List Value) : Nat := (st.map fun v => v.category).sum
theorem zwt_t (ad : Nat → Nat) (st : List Value) : ((st.map (zt ad)).map fun v => v.category).sum = zwt st := by
  unfold zwt
  rw [List.map_map]
  congr 1
  apply List.map_congr_left
  intro v _
  exact zt_cat ad v
section ZSTEP
variable {own : String} {cc : ByteArray} {nL d pc : Nat} {ini : Bool} {Z : ZK} {L : Fr} {ts : List Bool} {st : List Value} {h : Hp}
theorem zok_tl {v : Value} (hk : zok h L ts (v :: st)) : zok h L ts st := ⟨hk.1, fun a ha => hk.2 a (List.mem_cons_of_mem _ ha)⟩
theorem zok_i {x : Int32} (hk : zok h L ts st) : zok h L ts (.int x :: st) := ⟨hk.1, fun a ha => by
  rcases List.mem_cons.mp ha with h1 | h1
  · cases h1
  · exact hk.2 a h1⟩
theorem zok_l {x : Int64} (hk : zok h L ts st) : zok h L ts (.long x :: st) := ⟨hk.1, fun a ha => by
  rcases List.mem_cons.mp ha with h1 | h1
  · cases h1
  · exact hk.2 a h1⟩
theorem zok_r {r : Option Nat} (hk : zok h L ts st) (hr : ∀ a, r = some a → zid h a) : zok h L ts (va_rf r :: st) := ⟨hk.1, fun a ha => by
  rcases List.mem_cons.mp ha with h1 | h1
  · cases r with
    | none => cases h1
    | some b => cases h1; exact hr a rfl
  · exact hk.2 a h1⟩
/-- the locals hold the listed value -/
theorem zlv_i {ad : Nat → Nat} {ls : Array Slot} {i : Nat} (hl : lv_has ls nL (zlv ad L ts)) (hi : ts[i]? = some false) : ls[i]? = some (.val (.int (L.1 i))) :=
  lv_at hl i (by unfold zlv; rw [List.getElem?_mapIdx, hi]; rfl)
theorem zlv_r {ad : Nat → Nat} {ls : Array Slot} {i : Nat} (hl : lv_has ls nL (zlv ad L ts)) (hi : ts[i]? = some true) : ls[i]? = some (.val (va_rf ((L.2 i).map ad))) :=
  lv_at hl i (by unfold zlv; rw [List.getElem?_mapIdx, hi]; rfl)
theorem zw_const {v : Int32} (hX : zx own cc nL d ini Z) (n : Int) (hv : Int32.ofInt n = v) (hd : decode cc pc = .ok (.iconst n, 1)) (k : zw Z nL (pc + 1) L ts (.int v :: st) h) : zw Z nL pc L ts st h := by
  obtain ⟨p, l, e, R, s, m, args, below, meth, c, Q, A, G, cC, cS⟩ := Z
  intro ad H locs ls cells slots hr hl hk
  exact lv_iconst hX.1 hX.2.1 hd hv (k ad H locs ls cells slots hr hl (zok_i hk))
theorem zw_bipush {v : Int32} (hX : zx own cc nL d ini Z) (n : Int) (hv : (Int8.ofInt n).toInt32 = v) (hd : decode cc pc = .ok (.bipush n, 2)) (k : zw Z nL (pc + 2) L ts (.int v :: st) h) : zw Z nL pc L ts st h := by
  obtain ⟨p, l, e, R, s, m, args, below, meth, c, Q, A, G, cC, cS⟩ := Z
  intro ad H locs ls cells slots hr hl hk
  exact lv_bipush hX.1 hX.2.1 hd hv (k ad H locs ls cells slots hr hl (zok_i hk))
theorem zw_sipush {v : Int32} (hX : zx own cc nL d ini Z) (n : Int) (hv : (Int16.ofInt n).toInt32 = v) (hd : decode cc pc = .ok (.sipush n, 3)) (k : zw Z nL (pc + 3) L ts (.int v :: st) h) : zw Z nL pc L ts st h := by
  obtain ⟨p, l, e, R, s, m, args, below, meth, c, Q, A, G, cC, cS⟩ := Z
  intro ad H locs ls cells slots hr hl hk
  exact lv_sipush hX.1 hX.2.1 hd hv (k ad H locs ls cells slots hr hl (zok_i hk))
theorem zw_ldc {v : Int32} {ix : Nat} (hX : zx own cc nL d ini Z) (hw : Cond.constant own ix v ∈ lw_all) (hd : decode cc pc = .ok (.ldc ix, 2)) (k : zw Z nL (pc + 2) L ts (.int v :: st) h) : zw Z nL pc L ts st h := by
  obtain ⟨p, l, e, R, s, m, args, below, meth, c, Q, A, G, cC, cS⟩ := Z
  intro ad H locs ls cells slots hr hl hk
  exact lv_ldc hX.1 hX.2.1 hX.2.2.2.1 (hX.2.2.2.2.1 _ hw) hd (k ad H locs ls cells slots hr hl (zok_i hk))
theorem zw_ldcw {v : Int32} {ix : Nat} (hX : zx own cc nL d ini Z) (hw : Cond.constant own ix v ∈ lw_all) (hd : decode cc pc = .ok (.ldc_w ix, 3)) (k : zw Z nL (pc + 3) L ts (.int v :: st) h) : zw Z nL pc L ts st h := by
  obtain ⟨p, l, e, R, s, m, args, below, meth, c, Q, A, G, cC, cS⟩ := Z
  intro ad H locs ls cells slots hr hl hk
  exact lv_ldcw hX.1 hX.2.1 hX.2.2.2.1 (hX.2.2.2.2.1 _ hw) hd (k ad H locs ls cells slots hr hl (zok_i hk))
theorem zw_ldc2 {v : Int64} {ix : Nat} (hX : zx own cc nL d ini Z) (hw : Cond.constantLong own ix v ∈ lw_all) (hd : decode cc pc = .ok (.ldc2_w ix, 3)) (k : zw Z nL (pc + 3) L ts (.long v :: st) h) : zw Z nL pc L ts st h := by
  obtain ⟨p, l, e, R, s, m, args, below, meth, c, Q, A, G, cC, cS⟩ := Z
  intro ad H locs ls cells slots hr hl hk
  exact lv_ldc2 hX.1 hX.2.1 hX.2.2.2.1 (hX.2.2.2.2.1 _ hw) hd (k ad H locs ls cells slots hr hl (zok_l hk))
theorem zw_lconst {v : Int64} {n : Fin 2} (hX : zx own cc nL d ini Z) (hv : Int64.ofNat (n : Nat) = v) (hd : decode cc pc = .ok (.lconst n, 1)) (k : zw Z nL (pc + 1) L ts (.long v :: st) h) : zw Z nL pc L ts st h := by
  obtain ⟨p, l, e, R, s, m, args, below, meth, c, Q, A, G, cC, cS⟩ := Z
  intro ad H locs ls cells slots hr hl hk
  exact lv_lconst hX.1 hX.2.1 hd hv (k ad H locs ls cells slots hr hl (zok_l hk))
theorem zw_i2l {x : Int32} (hX : zx own cc nL d ini Z) (hd : decode cc pc = .ok (.i2l, 1)) (k : zw Z nL (pc + 1) L ts (.long x.toInt64 :: st) h) : zw Z nL pc L ts (.int x :: st) h := by
  obtain ⟨p, l, e, R, s, m, args, below, meth, c, Q, A, G, cC, cS⟩ := Z
  intro ad H locs ls cells slots hr hl hk
  exact lv_i2l hX.1 hX.2.1 hd rfl (k ad H locs ls cells slots hr hl (zok_l (zok_tl hk)))
theorem zw_iload_n {k : Fin 4} {i : Nat} (hX : zx own cc nL d ini Z) (hi : (k : Nat) = i) (ht : ts[i]? = some false) (hd : decode cc pc = .ok (.iload_n k, 1)) (kk : zw Z nL (pc + 1) L ts (.int (L.1 i) :: st) h) : zw Z nL pc L ts st h := by
  obtain ⟨p, l, e, R, s, m, args, below, meth, c, Q, A, G, cC, cS⟩ := Z
  intro ad H locs ls cells slots hr hl hk
  exact lv_iload_n hX.1 hX.2.1 hd hi (zlv_i hl ht) (kk ad H locs ls cells slots hr hl (zok_i hk))
theorem zw_iload {i : Nat} (hX : zx own cc nL d ini Z) (ht : ts[i]? = some false) (hd : decode cc pc = .ok (.iload i, 2)) (kk : zw Z nL (pc + 2) L ts (.int (L.1 i) :: st) h) : zw Z nL pc L ts st h := by
  obtain ⟨p, l, e, R, s, m, args, below, meth, c, Q, A, G, cC, cS⟩ := Z
  intro ad H locs ls cells slots hr hl hk
  exact lv_iload hX.1 hX.2.1 hd (zlv_i hl ht) (kk ad H locs ls cells slots hr hl (zok_i hk))
theorem zw_aload_n {k : Fin 4} {i : Nat} (hX : zx own cc nL d ini Z) (hi : (k : Nat) = i) (ht : ts[i]? = some true) (hd : decode cc pc = .ok (.aload_n k, 1)) (kk : zw Z nL (pc + 1) L ts (va_rf (L.2 i) :: st) h) : zw Z nL pc L ts st h := by
  obtain ⟨p, l, e, R, s, m, args, below, meth, c, Q, A, G, cC, cS⟩ := Z
  intro ad H locs ls cells slots hr hl hk
  have hv := zlv_r hl ht
  have k1 := kk ad H locs ls cells slots hr hl (zok_r hk (fun a ha => hk.1 i a ht ha))
  cases hL : L.2 i with
  | none =>
    rw [hL] at hv k1
    exact lv_aload_nN hX.1 hX.2.1 hd hi hv k1
  | some a =>
    rw [hL] at hv k1
    exact lv_aload_n hX.1 hX.2.1 hd hi hv k1
theorem zw_aload {i : Nat} (hX : zx own cc nL d ini Z) (ht : ts[i]? = some true) (hd : decode cc pc = .ok (.aload i, 2)) (kk : zw Z nL (pc + 2) L ts (va_rf (L.2 i) :: st) h) : zw Z nL pc L ts st h := by
  obtain ⟨p, l, e, R, s, m, args, below, meth, c, Q, A, G, cC, cS⟩ := Z
  intro ad H locs ls cells slots hr hl hk
  have hv := zlv_r hl ht
  have k1 := kk ad H locs ls cells slots hr hl (zok_r hk (fun a ha => hk.1 i a ht ha))
  cases hL : L.2 i with
  | none =>
    rw [hL] at hv k1
    exact lv_aloadN hX.1 hX.2.1 hd hv k1
  | some a =>
    rw [hL] at hv k1
    exact lv_aload hX.1 hX.2.1 hd hv k1
theorem zw_null (hX : zx own cc nL d ini Z) (hd : decode cc pc = .ok (.aconst_null, 1)) (kk : zw Z nL (pc + 1) L ts (.null :: st) h) : zw Z nL pc L ts st h := by
  obtain ⟨p, l, e, R, s, m, args, below, meth, c, Q, A, G, cC, cS⟩ := Z
  intro ad H locs ls cells slots hr hl hk
  exact lv_null hX.1 hX.2.1 hd (kk ad H locs ls cells slots hr hl (zok_r (r := none) hk (fun a ha => by cases ha)))
/-- the locals behind a store -/
theorem zlv_sub {ls : Array Slot} {l l' : List (Nat × Value)} (hl : lv_has ls nL l) (hs : ∀ q ∈ l', q ∈ l) : lv_has ls nL l' := ⟨hl.1, hl.2.1, fun q hq => hl.2.2 q (hs q hq)⟩
theorem zlv_mem {ad : Nat → Nat} {q : Nat × Value} : q ∈ zlv ad L ts ↔ ∃ b, ts[q.1]? = some b ∧ q.2 = (if b = true then va_rf ((L.2 q.1).map ad) else .int (L.1 q.1)) := by
  unfold zlv
  rw [List.mem_mapIdx]
  constructor
  · rintro ⟨i, hi, rfl⟩
    exact ⟨ts[i], List.getElem?_eq_getElem hi, rfl⟩
  · rintro ⟨b, hb, he⟩
    obtain ⟨hi, hb2⟩ := List.getElem?_eq_some_iff.mp hb
    refine ⟨q.1, hi, ?_⟩
    rw [hb2, ← he]
theorem zcat_rf (r : Option Nat) : (va_rf r).category = 1 := by cases r <;> rfl
theorem zlv_cat {ad : Nat → Nat} {q : Nat × Value} (hq : q ∈ zlv ad L ts) : q.2.category = 1 := by
  obtain ⟨b, -, he⟩ := zlv_mem.mp hq
  rw [he]
  cases b
  · rfl
  · exact zcat_rf _
/-- storing v into place i: the types ts2 behind it -/
theorem zlv_st {ad : Nat → Nat} {ls : Array Slot} {L2 : Fr} {ts2 : List Bool} {i : Nat} {v : Value} (hl : lv_has ls nL ((i, v) :: (zlv ad L ts).filter (fun q => !(q.1 == i) && !(q.1 + 1 == i && q.2.category == 2))))
    (h1 : ∀ b, ts2[i]? = some b → v = (if b = true then va_rf ((L2.2 i).map ad) else .int (L2.1 i))) (h2 : ∀ j b, j ≠ i → ts2[j]? = some b → ts[j]? = some b ∧ L2.1 j = L.1 j ∧ L2.2 j = L.2 j) : lv_has ls nL (zlv ad L2 ts2) := by
  refine zlv_sub hl fun q hq => ?_
  obtain ⟨b, hb, he⟩ := zlv_mem.mp hq
  by_cases hi : q.1 = i
  · refine List.mem_cons.mpr (Or.inl ?_)
    have := h1 b (by rw [← hi]; exact hb)
    obtain ⟨q1, q2⟩ := q
    dsimp only at hi he hb
    subst hi
    rw [he, ← this]
  · refine List.mem_cons.mpr (Or.inr ?_)
    obtain ⟨a1, a2, a3⟩ := h2 q.1 b hi hb
    have hm : q ∈ zlv ad L ts := zlv_mem.mpr ⟨b, a1, by rw [he, a2, a3]⟩
    refine List.mem_filter.mpr ⟨hm, ?_⟩
    have hc := zlv_cat hm
    simp [hi, hc]
/-- place i of the types is of type b behind the store, all else as it was -/
def ztsto (ts : List Bool) (i : Nat) (b : Bool) (ts2 : List Bool) : Prop := ts2[i]? = some b ∧ ∀ j c, j ≠ i → ts2[j]? = some c → ts[j]? = some c
theorem ztsto_old {i : Nat} {b : Bool} (h : ts[i]? = some b) : ztsto ts i b ts := ⟨h, fun _ _ _ h => h⟩
theorem ztsto_new {i : Nat} {b : Bool} (h : ts.length = i) : ztsto ts i b (ts ++ [b]) := by
  subst h
  refine ⟨by simp, fun j c hj hc => ?_⟩
  by_cases hl : j < ts.length
  · rw [List.getElem?_append_left hl] at hc
    exact hc
  · rw [List.getElem?_append_right (by omega)] at hc
    have : (j - ts.length) < 1 := (List.getElem?_eq_some_iff.mp hc).1
    omega
theorem zok_sti {ts2 : List Bool} {i : Nat} {x : Int32} (hs : ztsto ts i false ts2) (hk : zok h L ts st) : zok h (upd L.1 i x, L.2) ts2 st := ⟨fun j a hj ha => by
  by_cases e : j = i
  · subst e
    rw [hs.1] at hj
    cases hj
  · exact hk.1 j a (hs.2 j _ e hj) ha, hk.2⟩
theorem zok_str {ts2 : List Bool} {i : Nat} {r : Option Nat} (hs : ztsto ts i true ts2) (hk : zok h L ts st) (hr : ∀ a, r = some a → zid h a) : zok h (L.1, va_up L.2 i r) ts2 st := ⟨fun j a hj ha => by
  by_cases e : j = i
  · subst e
    have : va_up L.2 j r j = r := by unfold va_up; rw [if_pos rfl]
    exact hr a (by rw [← this]; exact ha)
  · have : va_up L.2 i r j = L.2 j := by unfold va_up; rw [if_neg e]
    exact hk.1 j a (hs.2 j _ e hj) (by rw [← this]; exact ha), hk.2⟩
theorem zlv_sti {ad : Nat → Nat} {ls : Array Slot} {ts2 : List Bool} {i : Nat} {x : Int32} (hs : ztsto ts i false ts2) (hl : lv_has ls nL ((i, .int x) :: (zlv ad L ts).filter (fun q => !(q.1 == i) && !(q.1 + 1 == i && q.2.category == 2)))) : lv_has ls nL (zlv ad (upd L.1 i x, L.2) ts2) :=
  zlv_st hl (fun b hb => by rw [hs.1] at hb; cases hb; show _ = Value.int (upd L.1 i x i); unfold upd; rw [if_pos rfl]) (fun j b hj hb => ⟨hs.2 j b hj hb, by show upd L.1 i x j = _; unfold upd; rw [if_neg hj], rfl⟩)
theorem zlv_str {ad : Nat → Nat} {ls : Array Slot} {ts2 : List Bool} {i : Nat} {r : Option Nat} (hs : ztsto ts i true ts2) (hl : lv_has ls nL ((i, va_rf (r.map ad)) :: (zlv ad L ts).filter (fun q => !(q.1 == i) && !(q.1 + 1 == i && q.2.category == 2)))) : lv_has ls nL (zlv ad (L.1, va_up L.2 i r) ts2) :=
  zlv_st hl (fun b hb => by rw [hs.1] at hb; cases hb; show _ = va_rf ((va_up L.2 i r i).map ad); unfold va_up; rw [if_pos rfl]) (fun j b hj hb => ⟨hs.2 j b hj hb, rfl, by show va_up L.2 i r j = _; unfold va_up; rw [if_neg hj]⟩)
theorem zw_istore_n {k : Fin 4} {i : Nat} {x : Int32} {ts2 : List Bool} (hX : zx own cc nL d ini Z) (hi : (k : Nat) = i) (hn : i < nL) (hs : ztsto ts i false ts2) (hd : decode cc pc = .ok (.istore_n k, 1)) (kk : zw Z nL (pc + 1) (upd L.1 i x, L.2) ts2 st h) : zw Z nL pc L ts (.int x :: st) h := by
  obtain ⟨p, l, e, R, s, m, args, below, meth, c, Q, A, G, cC, cS⟩ := Z
  intro ad H locs ls cells slots hr hl hk
  exact lv_istore_n hX.1 hX.2.1 hd hi hl hn rfl (fun ls' hl' => kk ad H locs ls' cells slots hr (zlv_sti hs hl') (zok_sti hs (zok_tl hk)))
theorem zw_istore {i : Nat} {x : Int32} {ts2 : List Bool} (hX : zx own cc nL d ini Z) (hn : i < nL) (hs : ztsto ts i false ts2) (hd : decode cc pc = .ok (.istore i, 2)) (kk : zw Z nL (pc + 2) (upd L.1 i x, L.2) ts2 st h) : zw Z nL pc L ts (.int x :: st) h := by
  obtain ⟨p, l, e, R, s, m, args, below, meth, c, Q, A, G, cC, cS⟩ := Z
  intro ad H locs ls cells slots hr hl hk
  exact lv_istore hX.1 hX.2.1 hd hl hn rfl (fun ls' hl' => kk ad H locs ls' cells slots hr (zlv_sti hs hl') (zok_sti hs (zok_tl hk)))
theorem zok_top {r : Option Nat} (hk : zok h L ts (va_rf r :: st)) : ∀ a, r = some a → zid h a := by
  intro a ha
  subst ha
  exact hk.2 a List.mem_cons_self
theorem zw_astore_n {k : Fin 4} {i : Nat} {r : Option Nat} {ts2 : List Bool} (hX : zx own cc nL d ini Z) (hi : (k : Nat) = i) (hn : i < nL) (hs : ztsto ts i true ts2) (hd : decode cc pc = .ok (.astore_n k, 1)) (kk : zw Z nL (pc + 1) (L.1, va_up L.2 i r) ts2 st h) : zw Z nL pc L ts (va_rf r :: st) h := by
  obtain ⟨p, l, e, R, s, m, args, below, meth, c, Q, A, G, cC, cS⟩ := Z
  intro ad H locs ls cells slots hr hl hk
  have ht := zok_top hk
  cases r with
  | none => exact lv_astore_nN hX.1 hX.2.1 hd hi hl hn rfl (fun ls' hl' => kk ad H locs ls' cells slots hr (zlv_str (r := none) hs hl') (zok_str hs (zok_tl hk) ht))
  | some a => exact lv_astore_n hX.1 hX.2.1 hd hi hl hn rfl (fun ls' hl' => kk ad H locs ls' cells slots hr (zlv_str (r := some a) hs hl') (zok_str hs (zok_tl hk) ht))
theorem zw_astore {i : Nat} {r : Option Nat} {ts2 : List Bool} (hX : zx own cc nL d ini Z) (hn : i < nL) (hs : ztsto ts i true ts2) (hd : decode cc pc = .ok (.astore i, 2)) (kk : zw Z nL (pc + 2) (L.1, va_up L.2 i r) ts2 st h) : zw Z nL pc L ts (va_rf r :: st) h := by
  obtain ⟨p, l, e, R, s, m, args, below, meth, c, Q, A, G, cC, cS⟩ := Z
  intro ad H locs ls cells slots hr hl hk
  have ht := zok_top hk
  cases r with
  | none => exact lv_astoreN hX.1 hX.2.1 hd hl hn rfl (fun ls' hl' => kk ad H locs ls' cells slots hr (zlv_str (r := none) hs hl') (zok_str hs (zok_tl hk) ht))
  | some a => exact lv_astore hX.1 hX.2.1 hd hl hn rfl (fun ls' hl' => kk ad H locs ls' cells slots hr (zlv_str (r := some a) hs hl') (zok_str hs (zok_tl hk) ht))
theorem zw_iinc {i : Nat} {n : Int} {v : Int32} (hX : zx own cc nL d ini Z) (hn : i < nL) (ht : ts[i]? = some false) (hv : Int32.ofInt n = v) (hd : decode cc pc = .ok (.iinc i n, 3)) (kk : zw Z nL (pc + 3) (upd L.1 i (L.1 i + v), L.2) ts st h) : zw Z nL pc L ts st h := by
  obtain ⟨p, l, e, R, s, m, args, below, meth, c, Q, A, G, cC, cS⟩ := Z
  intro ad H locs ls cells slots hr hl hk
  exact lv_iinc (k := i) hX.1 hX.2.1 hd hl (by unfold zlv; rw [List.getElem?_mapIdx, ht]; rfl) (by rw [hv]) hn rfl (fun ls' hl' => kk ad H locs ls' cells slots hr (zlv_sti (ztsto_old ht) hl') (zok_sti (ztsto_old ht) hk))
theorem zw_goto {off : Int} {tgt : Nat} (hX : zx own cc nL d ini Z) (ht : (pc : Int) + off = (tgt : Int)) (hd : decode cc pc = .ok (.goto off, 3)) (kk : zw Z nL tgt L ts st h) : zw Z nL pc L ts st h := by
  obtain ⟨p, l, e, R, s, m, args, below, meth, c, Q, A, G, cC, cS⟩ := Z
  intro ad H locs ls cells slots hr hl hk
  exact lv_goto hX.1 hX.2.1 hd ht (kk ad H locs ls cells slots hr hl hk)
theorem zw_pop {v : Value} (hX : zx own cc nL d ini Z) (hv : v.category = 1) (hd : decode cc pc = .ok (.pop, 1)) (kk : zw Z nL (pc + 1) L ts st h) : zw Z nL pc L ts (v :: st) h := by
  obtain ⟨p, l, e, R, s, m, args, below, meth, c, Q, A, G, cC, cS⟩ := Z
  intro ad H locs ls cells slots hr hl hk
  exact lv_pop hX.1 hX.2.1 hd (by rw [zt_cat]; exact hv) (kk ad H locs ls cells slots hr hl (zok_tl hk))
theorem zok_dup {v : Value} (hk : zok h L ts (v :: st)) : zok h L ts (v :: v :: st) := ⟨hk.1, fun a ha => by
  rcases List.mem_cons.mp ha with h1 | h1
  · exact hk.2 a (by rw [h1]; exact List.mem_cons_self)
  · exact hk.2 a h1⟩
theorem zw_dup {v : Value} (hX : zx own cc nL d ini Z) (hv : v.category = 1) (hd : decode cc pc = .ok (.dup, 1)) (kk : zw Z nL (pc + 1) L ts (v :: v :: st) h) : zw Z nL pc L ts (v :: st) h := by
  obtain ⟨p, l, e, R, s, m, args, below, meth, c, Q, A, G, cC, cS⟩ := Z
  intro ad H locs ls cells slots hr hl hk
  exact lv_dup hX.1 hX.2.1 hd (by rw [zt_cat]; exact hv) (kk ad H locs ls cells slots hr hl (zok_dup hk))
theorem zw_dup2 {v w : Value} (hX : zx own cc nL d ini Z) (hv : v.category = 1) (hw : w.category = 1) (hd : decode cc pc = .ok (.dup2, 1)) (kk : zw Z nL (pc + 1) L ts (v :: w :: v :: w :: st) h) : zw Z nL pc L ts (v :: w :: st) h := by
  obtain ⟨p, l, e, R, s, m, args, below, meth, c, Q, A, G, cC, cS⟩ := Z
  intro ad H locs ls cells slots hr hl hk
  exact lv_dup2_11 hX.1 hX.2.1 hd (by rw [zt_cat]; exact hv) (by rw [zt_cat]; exact hw) (kk ad H locs ls cells slots hr hl ⟨hk.1, fun a ha => hk.2 a (by
    simp only [List.mem_cons] at ha ⊢
    rcases ha with h1 | h1 | h1 | h1 | h1
    · exact Or.inl h1
    · exact Or.inr (Or.inl h1)
    · exact Or.inl h1
    · exact Or.inr (Or.inl h1)
    · exact Or.inr (Or.inr h1))⟩)
theorem zw_dup_x1 {v w : Value} (hX : zx own cc nL d ini Z) (hv : v.category = 1) (hw : w.category = 1) (hd : decode cc pc = .ok (.dup_x1, 1)) (kk : zw Z nL (pc + 1) L ts (v :: w :: v :: st) h) : zw Z nL pc L ts (v :: w :: st) h := by
  obtain ⟨p, l, e, R, s, m, args, below, meth, c, Q, A, G, cC, cS⟩ := Z
  intro ad H locs ls cells slots hr hl hk
  exact lv_dup_x1 hX.1 hX.2.1 hd (by rw [zt_cat]; exact hv) (by rw [zt_cat]; exact hw) (kk ad H locs ls cells slots hr hl ⟨hk.1, fun a ha => hk.2 a (by
    simp only [List.mem_cons] at ha ⊢
    rcases ha with h1 | h1 | h1 | h1
    · exact Or.inl h1
    · exact Or.inr (Or.inl h1)
    · exact Or.inl h1
    · exact Or.inr (Or.inr h1))⟩)
/-- fewer locals known: more -/
theorem zw_less {ts2 : List Bool} (hs : ∀ (i : Nat) (b : Bool), ts2[i]? = some b → ts[i]? = some b) (kk : zw Z nL pc L ts2 st h) : zw Z nL pc L ts st h := by
  obtain ⟨p, l, e, R, s, m, args, below, meth, c, Q, A, G, cC, cS⟩ := Z
  intro ad H locs ls cells slots hr hl hk
  refine kk ad H locs ls cells slots hr (zlv_sub hl fun q hq => ?_) ⟨fun i a hi ha => hk.1 i a (hs i _ hi) ha, hk.2⟩
  obtain ⟨b, hb, he⟩ := zlv_mem.mp hq
  exact zlv_mem.mpr ⟨b, hs _ _ hb, he⟩
end ZSTEP
