set_option maxRecDepth 100000
/-! LAYER 0: a pure memory, its picture in the heap, the judgement Go, a row an instruction -/
abbrev zcl : List vw_C := [(RX0, TX0, 27), (RX1, TX1, 4), (RX2, TX2, 4), (RX3, TX3, 11), (RX4, TX4, 63), (RX5, TX5, 9), (RX6, TX6, 9), (RX7, TX7, 4), (RX8, TX8, 5), (RX9, TX9, 2), (RJ2, TJ2, 3)]
def zdt (c j : Nat) : FieldType := match c with
  | 0 => tyX0 j
  | 1 => tyX1 j
  | 2 => tyX2 j
  | 3 => tyX3 j
  | 4 => tyX4 j
  | 5 => tyX5 j
  | 6 => tyX6 j
  | 7 => tyX7 j
  | 8 => tyX8 j
  | 9 => tyX9 j
  | _ => tyJ2 j
def ztys : List FieldType := [.int, .long, .byte, .boolean, .object "LastSpeakers$Entry", .object "LastSpeakers$Hearing", .object "LastSpeakers$Image", .array .int, .array (.array .int), .object "java/lang/String", .object "java/lang/Object", .byte, .int]
abbrev Mm : Type := (Nat → Nat) × (Nat → Nat → Nat → Value) × (Nat → Nat) × (Nat → Nat → Nat → Value) × Nat × Nat × (Nat → Nat) × (Nat → Nat)
def kd (μ : Mm) : Nat → Nat := μ.1
def fd (μ : Mm) : Nat → Nat → Nat → Value := μ.2.1
def ln (μ : Mm) : Nat → Nat := μ.2.2.1
def ar (μ : Mm) : Nat → Nat → Nat → Value := μ.2.2.2.1
def nx (μ : Mm) : Nat := μ.2.2.2.2.1
def sn (μ : Mm) : Nat := μ.2.2.2.2.2.1
def sa (μ : Mm) : Nat → Nat := μ.2.2.2.2.2.2.1
def sv (μ : Mm) : Nat → Nat := μ.2.2.2.2.2.2.2
def setF (μ : Mm) (c j a : Nat) (v : Value) : Mm := (μ.1, (fun c' j' a' => if c' = c ∧ j' = j ∧ a' = a then v else μ.2.1 c' j' a'), μ.2.2)
def setA (μ : Mm) (t a i : Nat) (v : Value) : Mm := (μ.1, μ.2.1, μ.2.2.1, (fun t' a' i' => if t' = t ∧ a' = a ∧ i' = i then v else μ.2.2.2.1 t' a' i'), μ.2.2.2.2)
def newO (μ : Mm) (c ns : Nat) : Mm := ((fun a => if a = nx μ then c + 1 else kd μ a), (fun c' j a => if c' = c ∧ a = nx μ then defaultValue (zdt c j) else fd μ c' j a), ln μ, ar μ, nx μ + 1, sn μ + ns, sa μ, sv μ)
def zdv (t : Nat) : Value := defaultValue (ztys.getD t .int)
def newA (μ : Mm) (t n : Nat) : Mm := ((fun a => if a = nx μ then 100 + t else kd μ a), fd μ, (fun a => if a = nx μ then n else ln μ a), (fun t' a i => if t' = t ∧ a = nx μ then zdv t else ar μ t' a i), nx μ + 1, sn μ + n, sa μ, sv μ)
abbrev Zt : Type := va_G × (Nat → ClassId) × Nat × (Nat → Nat) × (Nat → Nat) × Nat × Nat × (Nat → Int32)
def zD (Z : Zt) : va_G := Z.1
def zC (Z : Zt) : Nat → ClassId := Z.2.1
def zB (Z : Zt) : Nat := Z.2.2.1
def zS (Z : Zt) : Nat → Nat := Z.2.2.2.1
def zV (Z : Zt) : Nat → Nat := Z.2.2.2.2.1
/-- the script: its place, its length, its ints -/
def zX (Z : Zt) : Nat := Z.2.2.2.2.2.1
def zL (Z : Zt) : Nat := Z.2.2.2.2.2.2.1
def zx (Z : Zt) : Nat → Int32 := Z.2.2.2.2.2.2.2
/-- the heap holds the memory -/
def HP (Z : Zt) (μ : Mm) (H : Heap) : Prop :=
  (∀ a c : Nat, kd μ a = c + 1 → c < 11 → zB Z ≤ a ∧ ∃ r : vw_C, zcl[c]? = some r ∧ t_OB a ((zD Z).1 c) r.2.2 ((zD Z).2 c) H (fun j => fd μ c j a)) ∧
  (∀ a t : Nat, kd μ a = 100 + t → t < 12 → (t < 11 → zB Z ≤ a) ∧ H[a]? = some (arrV (zC Z t) (ln μ a) (fun i => ar μ t a i))) ∧ zB Z ≤ nx μ ∧ sa μ = zS Z ∧ sv μ = zV Z ∧ ∀ a : Nat, kd μ a = 112 → a = zX Z ∧ ln μ a = zL Z ∧ ∀ i : Nat, i < zL Z → ar μ 12 a i = .int (zx Z i)
/-- what was below the base stays; what was written lies above it -/
def FR (b : Nat) (H0 H : Heap) (locs : List Loc) (n : Nat) : Prop := H.size = n ∧ (∀ q : Nat, q < b → H[q]? = H0[q]?) ∧ (∀ x ∈ locs, b ≤ x.base) ∧ H0.size ≤ n
/-- the locals: null is a place of which nothing is known -/
def LK (ls : Array Slot) (nL : Nat) (L : List Value) : Prop := L.length = nL ∧ ls.size = nL ∧ lv_wf ls ∧ ∀ (i : Nat) (v : Value), L[i]? = some v → v ≠ .null → ls[i]? = some (.val v)
abbrev zNFq : Type := String × Nat × String × String × String × String
def zNF : List zNFq := [("LastSpeakers", 120, "LastSpeakers$Tongue", "things", "Ljava/util/ArrayList;", "LastSpeakers"), ("LastSpeakers", 134, "LastSpeakers$Tongue", "people", "Ljava/util/ArrayList;", "LastSpeakers"), ("LastSpeakers", 221, "LastSpeakers$Tongue", "month", "I", "LastSpeakers"), ("LastSpeakers", 89, "LastSpeakers$Reader", "tongue", "LLastSpeakers$Tongue;", "LastSpeakers"), ("LastSpeakers", 153, "LastSpeakers$Thing", "worth", "I", "LastSpeakers"), ("LastSpeakers", 156, "LastSpeakers$Thing", "hours", "I", "LastSpeakers"), ("LastSpeakers", 159, "LastSpeakers$Thing", "leans", "I", "LastSpeakers"), ("LastSpeakers", 162, "LastSpeakers$Thing", "reminds", "I", "LastSpeakers"), ("LastSpeakers", 175, "LastSpeakers$Person", "stays", "I", "LastSpeakers"), ("LastSpeakers", 184, "LastSpeakers$Person", "clear", "[I", "LastSpeakers"), ("LastSpeakers", 190, "LastSpeakers$Person", "after", "[I", "LastSpeakers"), ("LastSpeakers", 178, "LastSpeakers$Person", "isThere", "Z", "LastSpeakers"), ("LastSpeakers", 181, "LastSpeakers$Person", "asked", "I", "LastSpeakers"), ("LastSpeakers", 239, "LastSpeakers$Entry", "person", "I", "LastSpeakers"), ("LastSpeakers", 242, "LastSpeakers$Entry", "thing", "I", "LastSpeakers"), ("LastSpeakers", 245, "LastSpeakers$Entry", "hour", "I", "LastSpeakers"), ("LastSpeakers", 246, "LastSpeakers$Entry", "brought", "I", "LastSpeakers"), ("LastSpeakers", 334, "LastSpeakers$Hearing", "thing", "I", "LastSpeakers"), ("LastSpeakers", 335, "LastSpeakers$Hearing", "person", "I", "LastSpeakers"), ("LastSpeakers", 336, "LastSpeakers$Hearing", "version", "I", "LastSpeakers"), ("LastSpeakers", 339, "LastSpeakers$Hearing", "hint", "I", "LastSpeakers"), ("LastSpeakers", 371, "LastSpeakers$Image", "logs", "[LLastSpeakers$Entry;", "LastSpeakers"), ("LastSpeakers", 376, "LastSpeakers$Image", "hearings", "[LLastSpeakers$Hearing;", "LastSpeakers"), ("LastSpeakers", 367, "LastSpeakers$Image", "isThere", "[Z", "LastSpeakers"), ("LastSpeakers", 369, "LastSpeakers$Image", "asked", "[I", "LastSpeakers"), ("LastSpeakers", 116, "LastSpeakers$Image", "is", "Z", "LastSpeakers"), ("LastSpeakers", 361, "LastSpeakers$Image", "had", "I", "LastSpeakers"), ("LastSpeakers", 362, "LastSpeakers$Image", "hour", "I", "LastSpeakers"), ("LastSpeakers", 363, "LastSpeakers$Image", "last", "I", "LastSpeakers"), ("LastSpeakers", 365, "LastSpeakers$Image", "logMany", "I", "LastSpeakers"), ("LastSpeakers", 366, "LastSpeakers$Image", "hearingMany", "I", "LastSpeakers"), ("LastSpeakers", 364, "LastSpeakers$Image", "lots", "J", "LastSpeakers"), ("LastSpeakers$Reader", 115, "LastSpeakers$Tongue", "things", "Ljava/util/ArrayList;", "LastSpeakers"), ("LastSpeakers$Reader", 137, "LastSpeakers$Tongue", "people", "Ljava/util/ArrayList;", "LastSpeakers"), ("LastSpeakers$Reader", 177, "LastSpeakers$Tongue", "follows", "Ljava/util/ArrayList;", "LastSpeakers"), ("LastSpeakers$Reader", 200, "LastSpeakers$Tongue", "month", "I", "LastSpeakers"), ("LastSpeakers$Reader", 165, "LastSpeakers$Tongue", "leanMany", "I", "LastSpeakers"), ("LastSpeakers$Reader", 171, "LastSpeakers$Tongue", "nearMany", "I", "LastSpeakers"), ("LastSpeakers$Reader", 162, "LastSpeakers$Thing", "leans", "I", "LastSpeakers"), ("LastSpeakers$Reader", 168, "LastSpeakers$Thing", "reminds", "I", "LastSpeakers"), ("LastSpeakers$Reader", 155, "LastSpeakers$Person", "clear", "[I", "LastSpeakers"), ("LastSpeakers$Reader", 159, "LastSpeakers$Person", "after", "[I", "LastSpeakers"), ("LastSpeakers$Tongue", 60, "LastSpeakers$Thing", "worth", "I", "LastSpeakers"), ("LastSpeakers$Tongue", 63, "LastSpeakers$Thing", "hours", "I", "LastSpeakers"), ("LastSpeakers$Tongue", 51, "LastSpeakers$Follow", "thing", "I", "LastSpeakers")]
def zNM : List (String × Nat × MethodName × String) := [("LastSpeakers", 86, ⟨"LastSpeakers$Entry", "<init>", "()V"⟩, "LastSpeakers"), ("LastSpeakers", 87, ⟨"LastSpeakers$Hearing", "<init>", "()V"⟩, "LastSpeakers"), ("LastSpeakers$Image", 31, ⟨"LastSpeakers$Entry", "<init>", "()V"⟩, "LastSpeakers"), ("LastSpeakers$Image", 32, ⟨"LastSpeakers$Hearing", "<init>", "()V"⟩, "LastSpeakers"), ("LastSpeakers$Reader", 33, ⟨"LastSpeakers$Tongue", "<init>", "()V"⟩, "LastSpeakers"), ("LastSpeakers$Reader", 83, ⟨"LastSpeakers", "in", "(JJJ)Z"⟩, "LastSpeakers")]
def zCA : List String := ["java/util/ArrayList", "java/lang/String", "LastSpeakers", "LastSpeakers$Entry", "LastSpeakers$Hearing", "LastSpeakers$Image", "LastSpeakersModel", "LastSpeakers$Reader", "LastSpeakers$Tongue", "LastSpeakers$Thing", "LastSpeakers$Person", "LastSpeakers$Follow", "[B", "[I", "[J", "[LLastSpeakers$Entry;", "[LLastSpeakers$Hearing;", "[LLastSpeakers$Image;", "[Ljava/lang/Object;", "[Ljava/lang/String;", "[Z", "[[I", "[[[I"]
def zAO : List String := ["java/lang/String", "java/lang/Object", "LastSpeakers$Entry", "LastSpeakers$Hearing", "LastSpeakers$Image"]
def zSR : List (String × Nat × String × Nat) := [("LastSpeakersModel", 179, "thing", 0), ("LastSpeakersModel", 185, "person", 1), ("LastSpeakersModel", 187, "knows", 2), ("LastSpeakersModel", 189, "lean", 3), ("LastSpeakersModel", 190, "near", 4), ("LastSpeakersModel", 191, "follow", 5), ("LastSpeakersModel", 192, "month", 6), ("LastSpeakers$Reader", 11, "thing", 0), ("LastSpeakers$Reader", 13, "person", 1), ("LastSpeakers$Reader", 15, "knows", 2), ("LastSpeakers$Reader", 17, "lean", 3), ("LastSpeakers$Reader", 19, "near", 4), ("LastSpeakers$Reader", 21, "follow", 5), ("LastSpeakers$Reader", 23, "month", 6)]
def zlen : List Nat := [5, 6, 5, 4, 4, 6, 5]
def zbyt : List (List Int32) := [[116, 104, 105, 110, 103], [112, 101, 114, 115, 111, 110], [107, 110, 111, 119, 115], [108, 101, 97, 110], [110, 101, 97, 114], [102, 111, 108, 108, 111, 119], [109, 111, 110, 116, 104]]
abbrev zty (Z : Zt) : List (ClassId × FieldType) := [(zC Z 0, .int), (zC Z 1, .long), (zC Z 2, .byte), (zC Z 3, .boolean), (zC Z 4, .object "LastSpeakers$Entry"), (zC Z 5, .object "LastSpeakers$Hearing"), (zC Z 6, .object "LastSpeakers$Image"), (zC Z 7, .array .int), (zC Z 8, .array (.array .int)), (zC Z 9, .object "java/lang/String"), (zC Z 10, .object "java/lang/Object"), (zC Z 11, .byte), (zC Z 12, .int)]
/-- what the tables say, and what lies fixed below the base: the String constants, two statics -/
def KS (Z : Zt) (U : State) (H : Heap) : Prop := ∃ (vF : Value), vF.category = 1 ∧ vk_S 7 zlen zbyt (zS Z) (zV Z) (fun q => zB Z ≤ q) U H ∧ va_Z "java/lang/String" "COMPACT_STRINGS" "Z" (.int 1) (fun q => zB Z ≤ q) U H ∧ va_Z "jdk/internal/util/Preconditions" "SIOOBE_FORMATTER" "Ljava/util/function/BiFunction;" vF (fun q => zB Z ≤ q) U H ∧ zX Z < zB Z ∧ va_X (zX Z) (zL Z) (zx Z) U H
def zAA : List FieldType := [.int, .array .int]
def KK (Z : Zt) (U : State) : Prop := va_K (zD Z) zcl (zty Z) U ∧ (∀ q ∈ zNF, va_Nw (.fieldLinkNest q.1 q.2.1 q.2.2.1 q.2.2.2.1 q.2.2.2.2.1 q.2.2.2.2.2) U) ∧ (∀ q ∈ zNM, va_Nw (.methodLinkNest q.1 q.2.1 q.2.2.1 q.2.2.2) U) ∧ (∀ C ∈ zCA, va_Nw (.castable C "java/lang/Object") U) ∧ (∀ C ∈ zAO, va_AO C U) ∧ (∀ q ∈ zSR, vk_R q.1 q.2.1 q.2.2.1 (zS Z q.2.2.2) U) ∧ (∀ t ∈ zAA, (Cond.arrayOver (.array t)).before #[] U = true)
theorem zAO_moved {t : FieldType} {u U : State} (hvm : u.vm.Alike U.vm) (h : (Cond.arrayOver (.array t)).before #[] u = true) : (Cond.arrayOver (.array t)).before #[] U = true := by
  obtain ⟨comp, c, k, h1, h2, h3, h4, h5⟩ := arrayOverA_spec h
  obtain ⟨k', hk', he⟩ := hvm.2.2 _ _ h3
  have hi : (U.vm.classes.findIdx? fun (x : Class) => match x.kind with | .array component _ => component == comp | _ => false) = some c := by
    have e1 := va_idx_bare U.vm comp
    have e2 := va_idx_bare u.vm comp
    have e3 : u.vm.bare = U.vm.bare := by first | exact hvm.bare_eq | exact hvm.bare_eq.symm
    refine e1.symm.trans ?_
    rw [← e3]
    exact e2.trans h2
  have hkind : k'.kind = .array comp (.array t) := by rw [he]; exact h4
  have f1 : U.vm.findClass (FieldType.array t).toString = some comp := by rw [hvm.findClass]; exact h1
  have f2 : U.vm.findClass ("[" ++ (FieldType.array t).toString) = some c := by rw [hvm.findClass]; exact h5
  unfold Cond.before Cond.holds
  simp only [Cond.value]
  rw [f1, Option.bind_some]
  refine (congrArg (fun o : Option Nat => (o.bind (fun c => (U.vm.classes[c]?).map fun (k : Class) => match k.kind with | .array _ ty => decide (ty = FieldType.array t) && decide (U.vm.findClass ("[" ++ (FieldType.array t).toString) = some c) | _ => false) == some true)) hi).trans ?_
  simp [hk', hkind, f2]
theorem KK.warm {Z : Zt} {s U : State} (hW : s.WarmedH U.vm) (h : KK Z s) : KK Z U := by
  obtain ⟨h1, h2, h3, h4, h5, h6, h7⟩ := h
  exact ⟨va_K.moved hW.alike h1, fun q hq => (h2 q hq).warmF hW, fun q hq => (h3 q hq).warmM hW, fun q hq => (h4 q hq).warmC hW, fun q hq => (h5 q hq).moved hW.alike, fun q hq => (h6 q hq).warm hW, fun t ht => zAO_moved hW.alike (h7 t ht)⟩
theorem KS.moved {Z : Zt} {u U : State} {H : Heap} (hvm : u.vm.Alike U.vm) (h : KS Z u H) : KS Z U H := by
  obtain ⟨vF, h0, h1, h2, h3, h4, h5⟩ := h
  exact ⟨vF, h0, h1.moved hvm, h2.moved hvm, h3.moved hvm, h4, h5.moved hvm⟩
theorem KS.kept {Z : Zt} {U : State} {H H1 : Heap} (hq : ∀ q : Nat, q < zB Z → H1[q]? = H[q]?) (h : KS Z U H) : KS Z U H1 := by
  obtain ⟨vF, h0, h1, h2, h3, h4, h5⟩ := h
  have hq' : ∀ a : Nat, a < H.size → ¬ zB Z ≤ a → H1[a]? = H[a]? := fun a _ ha => hq a (Nat.lt_of_not_le ha)
  exact ⟨vF, h0, h1.kept hq', h2.kept hq', h3.kept hq', h4, h5.kept (hq _ h4)⟩
def Kt : Type := Program × Launch × Env × Room × State × MethodId × Array Value × List Frame × Method × Code × (State → Prop) × Zt × Nat × Nat × Nat × Nat
/-- THE JUDGEMENT: from pc, with locals L, stack st and memory μ, the machine comes to a state with the goal; what is new stays in the room -/
def Go (k : Kt) (pc : Nat) (L st : List Value) (μ : Mm) : Prop := match k with
  | (p, l, e, R, s, m, args, below, meth, c, Q, Z, nx0, sn0, NX, SN) =>
    (nx μ ≤ NX ∧ sn μ ≤ SN) ∧ ∀ (H : Heap) (locs : List Loc) (ls : Array Slot), HP Z μ H → FR (zB Z) s.heap H locs (nx μ) → nx0 ≤ nx μ → sn0 ≤ sn μ → LK ls c.maxLocals L → W p l e R s m args below meth c H locs (nx μ - nx0) (sn μ - sn0) Q (F0 m pc ls st)
/-- the method's own facts -/
def Ctx (k : Kt) (own nm : String) (cc : ByteArray) (ret : Option FieldType) (fr lo : Nat) : Prop := match k with
  | (p, l, e, R, s, m, args, below, meth, c, Q, Z, nx0, sn0, NX, SN) =>
    p.tables.exec = Jvm.exec ∧ c.code = cc ∧ s.vm.findClass own = some m.cls ∧ (∀ w ∈ lw_all, w.before args s = true) ∧ KK Z s ∧ KS Z s s.heap ∧ meth.locks = false ∧ meth.name = nm ∧ meth.sig.returnType = ret ∧ R.cells = NX - nx0 ∧ R.slots = SN - sn0 ∧ R.frames = fr ∧ R.locals = lo
/-- a method's end, by pictures -/
def zPc (Z : Zt) (args : List Value) (μ : Mm) : Array Value → State → Prop := fun v U => v = args.toArray ∧ HP Z μ U.heap ∧ U.heap.size = nx μ ∧ KK Z U ∧ KS Z U U.heap
def zQc (Z : Zt) (r : Option Value) (μ : Mm) : Array Value → State → Outcome → State → Prop := fun _ st o t => o = .returned r ∧ HP Z μ t.heap ∧ t.heap.size = nx μ ∧ ∀ q : Nat, q < zB Z → t.heap[q]? = st.heap[q]?
def Rt (k : Kt) (v : Option Value) (μ : Mm) : Prop := match k with
  | (p, l, e, R, s, m, args, below, meth, c, Q, Z, nx0, sn0, NX, SN) =>
    nx μ ≤ NX ∧ sn μ ≤ SN ∧ Q = MQ below (zQc Z v μ) args s (NX - nx0) (SN - sn0) (fun q => zB Z ≤ q)

theorem go_iconst {k : Kt} {own nm : String} {cc : ByteArray} {ret : Option FieldType} {fr lo : Nat} {pc : Nat} {L st : List Value} {μ : Mm} {n : Int} {v : Int32} (K : Ctx k own nm cc ret fr lo) (hd : decode cc pc = .ok (.iconst n, 1)) (hv : Int32.ofInt n = v) (kk : Go k (pc + 1) L (.int v :: st) μ) : Go k pc L st μ := by
  obtain ⟨p, l, e, R, s, m, args, below, meth, c, Q, Z, nx0, sn0, NX, SN⟩ := k
  obtain ⟨hx, hb, hown, hts, hKK, hKS, hlk, hnm, hrt, hR1, hR2, hR3, hR4⟩ := K
  exact ⟨kk.1, fun H locs ls hH hF h0 h1 hl => lv_iconst hx hb hd hv (kk.2 H locs ls hH hF h0 h1 hl)⟩
theorem go_bipush {k : Kt} {own nm : String} {cc : ByteArray} {ret : Option FieldType} {fr lo : Nat} {pc : Nat} {L st : List Value} {μ : Mm} {n : Int} {v : Int32} (K : Ctx k own nm cc ret fr lo) (hd : decode cc pc = .ok (.bipush n, 2)) (hv : (Int8.ofInt n).toInt32 = v) (kk : Go k (pc + 2) L (.int v :: st) μ) : Go k pc L st μ := by
  obtain ⟨p, l, e, R, s, m, args, below, meth, c, Q, Z, nx0, sn0, NX, SN⟩ := k
  obtain ⟨hx, hb, hown, hts, hKK, hKS, hlk, hnm, hrt, hR1, hR2, hR3, hR4⟩ := K
  exact ⟨kk.1, fun H locs ls hH hF h0 h1 hl => lv_bipush hx hb hd hv (kk.2 H locs ls hH hF h0 h1 hl)⟩
theorem go_sipush {k : Kt} {own nm : String} {cc : ByteArray} {ret : Option FieldType} {fr lo : Nat} {pc : Nat} {L st : List Value} {μ : Mm} {n : Int} {v : Int32} (K : Ctx k own nm cc ret fr lo) (hd : decode cc pc = .ok (.sipush n, 3)) (hv : (Int16.ofInt n).toInt32 = v) (kk : Go k (pc + 3) L (.int v :: st) μ) : Go k pc L st μ := by
  obtain ⟨p, l, e, R, s, m, args, below, meth, c, Q, Z, nx0, sn0, NX, SN⟩ := k
  obtain ⟨hx, hb, hown, hts, hKK, hKS, hlk, hnm, hrt, hR1, hR2, hR3, hR4⟩ := K
  exact ⟨kk.1, fun H locs ls hH hF h0 h1 hl => lv_sipush hx hb hd hv (kk.2 H locs ls hH hF h0 h1 hl)⟩
theorem go_lconst {k : Kt} {own nm : String} {cc : ByteArray} {ret : Option FieldType} {fr lo : Nat} {pc : Nat} {L st : List Value} {μ : Mm} {n : Fin 2} {v : Int64} (K : Ctx k own nm cc ret fr lo) (hd : decode cc pc = .ok (.lconst n, 1)) (hv : Int64.ofNat (n : Nat) = v) (kk : Go k (pc + 1) L (.long v :: st) μ) : Go k pc L st μ := by
  obtain ⟨p, l, e, R, s, m, args, below, meth, c, Q, Z, nx0, sn0, NX, SN⟩ := k
  obtain ⟨hx, hb, hown, hts, hKK, hKS, hlk, hnm, hrt, hR1, hR2, hR3, hR4⟩ := K
  exact ⟨kk.1, fun H locs ls hH hF h0 h1 hl => lv_lconst hx hb hd hv (kk.2 H locs ls hH hF h0 h1 hl)⟩
theorem go_null {k : Kt} {own nm : String} {cc : ByteArray} {ret : Option FieldType} {fr lo : Nat} {pc : Nat} {L st : List Value} {μ : Mm}  (K : Ctx k own nm cc ret fr lo) (hd : decode cc pc = .ok (.aconst_null, 1)) (kk : Go k (pc + 1) L (.null :: st) μ) : Go k pc L st μ := by
  obtain ⟨p, l, e, R, s, m, args, below, meth, c, Q, Z, nx0, sn0, NX, SN⟩ := k
  obtain ⟨hx, hb, hown, hts, hKK, hKS, hlk, hnm, hrt, hR1, hR2, hR3, hR4⟩ := K
  exact ⟨kk.1, fun H locs ls hH hF h0 h1 hl => lv_null hx hb hd  (kk.2 H locs ls hH hF h0 h1 hl)⟩
theorem go_iadd {k : Kt} {own nm : String} {cc : ByteArray} {ret : Option FieldType} {fr lo : Nat} {pc : Nat} {L st : List Value} {μ : Mm} {x y : Int32} (K : Ctx k own nm cc ret fr lo) (hd : decode cc pc = .ok (.iadd, 1)) (kk : Go k (pc + 1) L (.int (x + y) :: st) μ) : Go k pc L (.int y :: .int x :: st) μ := by
  obtain ⟨p, l, e, R, s, m, args, below, meth, c, Q, Z, nx0, sn0, NX, SN⟩ := k
  obtain ⟨hx, hb, hown, hts, hKK, hKS, hlk, hnm, hrt, hR1, hR2, hR3, hR4⟩ := K
  exact ⟨kk.1, fun H locs ls hH hF h0 h1 hl => lv_iadd hx hb hd  (kk.2 H locs ls hH hF h0 h1 hl)⟩
theorem go_isub {k : Kt} {own nm : String} {cc : ByteArray} {ret : Option FieldType} {fr lo : Nat} {pc : Nat} {L st : List Value} {μ : Mm} {x y : Int32} (K : Ctx k own nm cc ret fr lo) (hd : decode cc pc = .ok (.isub, 1)) (kk : Go k (pc + 1) L (.int (x - y) :: st) μ) : Go k pc L (.int y :: .int x :: st) μ := by
  obtain ⟨p, l, e, R, s, m, args, below, meth, c, Q, Z, nx0, sn0, NX, SN⟩ := k
  obtain ⟨hx, hb, hown, hts, hKK, hKS, hlk, hnm, hrt, hR1, hR2, hR3, hR4⟩ := K
  exact ⟨kk.1, fun H locs ls hH hF h0 h1 hl => lv_isub hx hb hd  (kk.2 H locs ls hH hF h0 h1 hl)⟩
theorem go_imul {k : Kt} {own nm : String} {cc : ByteArray} {ret : Option FieldType} {fr lo : Nat} {pc : Nat} {L st : List Value} {μ : Mm} {x y : Int32} (K : Ctx k own nm cc ret fr lo) (hd : decode cc pc = .ok (.imul, 1)) (kk : Go k (pc + 1) L (.int (x * y) :: st) μ) : Go k pc L (.int y :: .int x :: st) μ := by
  obtain ⟨p, l, e, R, s, m, args, below, meth, c, Q, Z, nx0, sn0, NX, SN⟩ := k
  obtain ⟨hx, hb, hown, hts, hKK, hKS, hlk, hnm, hrt, hR1, hR2, hR3, hR4⟩ := K
  exact ⟨kk.1, fun H locs ls hH hF h0 h1 hl => lv_imul hx hb hd  (kk.2 H locs ls hH hF h0 h1 hl)⟩
theorem go_iand {k : Kt} {own nm : String} {cc : ByteArray} {ret : Option FieldType} {fr lo : Nat} {pc : Nat} {L st : List Value} {μ : Mm} {x y : Int32} (K : Ctx k own nm cc ret fr lo) (hd : decode cc pc = .ok (.iand, 1)) (kk : Go k (pc + 1) L (.int (x &&& y) :: st) μ) : Go k pc L (.int y :: .int x :: st) μ := by
  obtain ⟨p, l, e, R, s, m, args, below, meth, c, Q, Z, nx0, sn0, NX, SN⟩ := k
  obtain ⟨hx, hb, hown, hts, hKK, hKS, hlk, hnm, hrt, hR1, hR2, hR3, hR4⟩ := K
  exact ⟨kk.1, fun H locs ls hH hF h0 h1 hl => lv_iand hx hb hd  (kk.2 H locs ls hH hF h0 h1 hl)⟩
theorem go_ior {k : Kt} {own nm : String} {cc : ByteArray} {ret : Option FieldType} {fr lo : Nat} {pc : Nat} {L st : List Value} {μ : Mm} {x y : Int32} (K : Ctx k own nm cc ret fr lo) (hd : decode cc pc = .ok (.ior, 1)) (kk : Go k (pc + 1) L (.int (x ||| y) :: st) μ) : Go k pc L (.int y :: .int x :: st) μ := by
  obtain ⟨p, l, e, R, s, m, args, below, meth, c, Q, Z, nx0, sn0, NX, SN⟩ := k
  obtain ⟨hx, hb, hown, hts, hKK, hKS, hlk, hnm, hrt, hR1, hR2, hR3, hR4⟩ := K
  exact ⟨kk.1, fun H locs ls hH hF h0 h1 hl => lv_ior hx hb hd  (kk.2 H locs ls hH hF h0 h1 hl)⟩
theorem go_ixor {k : Kt} {own nm : String} {cc : ByteArray} {ret : Option FieldType} {fr lo : Nat} {pc : Nat} {L st : List Value} {μ : Mm} {x y : Int32} (K : Ctx k own nm cc ret fr lo) (hd : decode cc pc = .ok (.ixor, 1)) (kk : Go k (pc + 1) L (.int (x ^^^ y) :: st) μ) : Go k pc L (.int y :: .int x :: st) μ := by
  obtain ⟨p, l, e, R, s, m, args, below, meth, c, Q, Z, nx0, sn0, NX, SN⟩ := k
  obtain ⟨hx, hb, hown, hts, hKK, hKS, hlk, hnm, hrt, hR1, hR2, hR3, hR4⟩ := K
  exact ⟨kk.1, fun H locs ls hH hF h0 h1 hl => lv_ixor hx hb hd  (kk.2 H locs ls hH hF h0 h1 hl)⟩
theorem go_ishl {k : Kt} {own nm : String} {cc : ByteArray} {ret : Option FieldType} {fr lo : Nat} {pc : Nat} {L st : List Value} {μ : Mm} {x y : Int32} (K : Ctx k own nm cc ret fr lo) (hd : decode cc pc = .ok (.ishl, 1)) (kk : Go k (pc + 1) L (.int (x <<< (y &&& 31)) :: st) μ) : Go k pc L (.int y :: .int x :: st) μ := by
  obtain ⟨p, l, e, R, s, m, args, below, meth, c, Q, Z, nx0, sn0, NX, SN⟩ := k
  obtain ⟨hx, hb, hown, hts, hKK, hKS, hlk, hnm, hrt, hR1, hR2, hR3, hR4⟩ := K
  exact ⟨kk.1, fun H locs ls hH hF h0 h1 hl => lv_ishl hx hb hd  (kk.2 H locs ls hH hF h0 h1 hl)⟩
theorem go_ishr {k : Kt} {own nm : String} {cc : ByteArray} {ret : Option FieldType} {fr lo : Nat} {pc : Nat} {L st : List Value} {μ : Mm} {x y : Int32} (K : Ctx k own nm cc ret fr lo) (hd : decode cc pc = .ok (.ishr, 1)) (kk : Go k (pc + 1) L (.int (x >>> (y &&& 31)) :: st) μ) : Go k pc L (.int y :: .int x :: st) μ := by
  obtain ⟨p, l, e, R, s, m, args, below, meth, c, Q, Z, nx0, sn0, NX, SN⟩ := k
  obtain ⟨hx, hb, hown, hts, hKK, hKS, hlk, hnm, hrt, hR1, hR2, hR3, hR4⟩ := K
  exact ⟨kk.1, fun H locs ls hH hF h0 h1 hl => lv_ishr hx hb hd  (kk.2 H locs ls hH hF h0 h1 hl)⟩
theorem go_idiv {k : Kt} {own nm : String} {cc : ByteArray} {ret : Option FieldType} {fr lo : Nat} {pc : Nat} {L st : List Value} {μ : Mm} {x y : Int32} (K : Ctx k own nm cc ret fr lo) (hd : decode cc pc = .ok (.idiv, 1)) (hne : ¬ y = 0) (kk : Go k (pc + 1) L (.int (x / y) :: st) μ) : Go k pc L (.int y :: .int x :: st) μ := by
  obtain ⟨p, l, e, R, s, m, args, below, meth, c, Q, Z, nx0, sn0, NX, SN⟩ := k
  obtain ⟨hx, hb, hown, hts, hKK, hKS, hlk, hnm, hrt, hR1, hR2, hR3, hR4⟩ := K
  exact ⟨kk.1, fun H locs ls hH hF h0 h1 hl => lv_idiv hx hb hd hne (kk.2 H locs ls hH hF h0 h1 hl)⟩
theorem go_irem {k : Kt} {own nm : String} {cc : ByteArray} {ret : Option FieldType} {fr lo : Nat} {pc : Nat} {L st : List Value} {μ : Mm} {x y : Int32} (K : Ctx k own nm cc ret fr lo) (hd : decode cc pc = .ok (.irem, 1)) (hne : ¬ y = 0) (kk : Go k (pc + 1) L (.int (x - x / y * y) :: st) μ) : Go k pc L (.int y :: .int x :: st) μ := by
  obtain ⟨p, l, e, R, s, m, args, below, meth, c, Q, Z, nx0, sn0, NX, SN⟩ := k
  obtain ⟨hx, hb, hown, hts, hKK, hKS, hlk, hnm, hrt, hR1, hR2, hR3, hR4⟩ := K
  exact ⟨kk.1, fun H locs ls hH hF h0 h1 hl => lv_irem hx hb hd hne (kk.2 H locs ls hH hF h0 h1 hl)⟩
theorem go_ladd {k : Kt} {own nm : String} {cc : ByteArray} {ret : Option FieldType} {fr lo : Nat} {pc : Nat} {L st : List Value} {μ : Mm} {x y : Int64} (K : Ctx k own nm cc ret fr lo) (hd : decode cc pc = .ok (.ladd, 1)) (kk : Go k (pc + 1) L (.long (x + y) :: st) μ) : Go k pc L (.long y :: .long x :: st) μ := by
  obtain ⟨p, l, e, R, s, m, args, below, meth, c, Q, Z, nx0, sn0, NX, SN⟩ := k
  obtain ⟨hx, hb, hown, hts, hKK, hKS, hlk, hnm, hrt, hR1, hR2, hR3, hR4⟩ := K
  exact ⟨kk.1, fun H locs ls hH hF h0 h1 hl => lv_ladd hx hb hd  (kk.2 H locs ls hH hF h0 h1 hl)⟩
theorem go_lsub {k : Kt} {own nm : String} {cc : ByteArray} {ret : Option FieldType} {fr lo : Nat} {pc : Nat} {L st : List Value} {μ : Mm} {x y : Int64} (K : Ctx k own nm cc ret fr lo) (hd : decode cc pc = .ok (.lsub, 1)) (kk : Go k (pc + 1) L (.long (x - y) :: st) μ) : Go k pc L (.long y :: .long x :: st) μ := by
  obtain ⟨p, l, e, R, s, m, args, below, meth, c, Q, Z, nx0, sn0, NX, SN⟩ := k
  obtain ⟨hx, hb, hown, hts, hKK, hKS, hlk, hnm, hrt, hR1, hR2, hR3, hR4⟩ := K
  exact ⟨kk.1, fun H locs ls hH hF h0 h1 hl => lv_lsub hx hb hd  (kk.2 H locs ls hH hF h0 h1 hl)⟩
theorem go_lmul {k : Kt} {own nm : String} {cc : ByteArray} {ret : Option FieldType} {fr lo : Nat} {pc : Nat} {L st : List Value} {μ : Mm} {x y : Int64} (K : Ctx k own nm cc ret fr lo) (hd : decode cc pc = .ok (.lmul, 1)) (kk : Go k (pc + 1) L (.long (x * y) :: st) μ) : Go k pc L (.long y :: .long x :: st) μ := by
  obtain ⟨p, l, e, R, s, m, args, below, meth, c, Q, Z, nx0, sn0, NX, SN⟩ := k
  obtain ⟨hx, hb, hown, hts, hKK, hKS, hlk, hnm, hrt, hR1, hR2, hR3, hR4⟩ := K
  exact ⟨kk.1, fun H locs ls hH hF h0 h1 hl => lv_lmul hx hb hd  (kk.2 H locs ls hH hF h0 h1 hl)⟩
theorem go_land {k : Kt} {own nm : String} {cc : ByteArray} {ret : Option FieldType} {fr lo : Nat} {pc : Nat} {L st : List Value} {μ : Mm} {x y : Int64} (K : Ctx k own nm cc ret fr lo) (hd : decode cc pc = .ok (.land, 1)) (kk : Go k (pc + 1) L (.long (x &&& y) :: st) μ) : Go k pc L (.long y :: .long x :: st) μ := by
  obtain ⟨p, l, e, R, s, m, args, below, meth, c, Q, Z, nx0, sn0, NX, SN⟩ := k
  obtain ⟨hx, hb, hown, hts, hKK, hKS, hlk, hnm, hrt, hR1, hR2, hR3, hR4⟩ := K
  exact ⟨kk.1, fun H locs ls hH hF h0 h1 hl => lv_land hx hb hd  (kk.2 H locs ls hH hF h0 h1 hl)⟩
theorem go_lor {k : Kt} {own nm : String} {cc : ByteArray} {ret : Option FieldType} {fr lo : Nat} {pc : Nat} {L st : List Value} {μ : Mm} {x y : Int64} (K : Ctx k own nm cc ret fr lo) (hd : decode cc pc = .ok (.lor, 1)) (kk : Go k (pc + 1) L (.long (x ||| y) :: st) μ) : Go k pc L (.long y :: .long x :: st) μ := by
  obtain ⟨p, l, e, R, s, m, args, below, meth, c, Q, Z, nx0, sn0, NX, SN⟩ := k
  obtain ⟨hx, hb, hown, hts, hKK, hKS, hlk, hnm, hrt, hR1, hR2, hR3, hR4⟩ := K
  exact ⟨kk.1, fun H locs ls hH hF h0 h1 hl => lv_lor hx hb hd  (kk.2 H locs ls hH hF h0 h1 hl)⟩
theorem go_lxor {k : Kt} {own nm : String} {cc : ByteArray} {ret : Option FieldType} {fr lo : Nat} {pc : Nat} {L st : List Value} {μ : Mm} {x y : Int64} (K : Ctx k own nm cc ret fr lo) (hd : decode cc pc = .ok (.lxor, 1)) (kk : Go k (pc + 1) L (.long (x ^^^ y) :: st) μ) : Go k pc L (.long y :: .long x :: st) μ := by
  obtain ⟨p, l, e, R, s, m, args, below, meth, c, Q, Z, nx0, sn0, NX, SN⟩ := k
  obtain ⟨hx, hb, hown, hts, hKK, hKS, hlk, hnm, hrt, hR1, hR2, hR3, hR4⟩ := K
  exact ⟨kk.1, fun H locs ls hH hF h0 h1 hl => lv_lxor hx hb hd  (kk.2 H locs ls hH hF h0 h1 hl)⟩
theorem go_ldiv {k : Kt} {own nm : String} {cc : ByteArray} {ret : Option FieldType} {fr lo : Nat} {pc : Nat} {L st : List Value} {μ : Mm} {x y : Int64} (K : Ctx k own nm cc ret fr lo) (hd : decode cc pc = .ok (.ldiv, 1)) (hne : ¬ y = 0) (kk : Go k (pc + 1) L (.long (x / y) :: st) μ) : Go k pc L (.long y :: .long x :: st) μ := by
  obtain ⟨p, l, e, R, s, m, args, below, meth, c, Q, Z, nx0, sn0, NX, SN⟩ := k
  obtain ⟨hx, hb, hown, hts, hKK, hKS, hlk, hnm, hrt, hR1, hR2, hR3, hR4⟩ := K
  exact ⟨kk.1, fun H locs ls hH hF h0 h1 hl => lv_ldiv hx hb hd hne (kk.2 H locs ls hH hF h0 h1 hl)⟩
theorem go_lrem {k : Kt} {own nm : String} {cc : ByteArray} {ret : Option FieldType} {fr lo : Nat} {pc : Nat} {L st : List Value} {μ : Mm} {x y : Int64} (K : Ctx k own nm cc ret fr lo) (hd : decode cc pc = .ok (.lrem, 1)) (hne : ¬ y = 0) (kk : Go k (pc + 1) L (.long (x - x / y * y) :: st) μ) : Go k pc L (.long y :: .long x :: st) μ := by
  obtain ⟨p, l, e, R, s, m, args, below, meth, c, Q, Z, nx0, sn0, NX, SN⟩ := k
  obtain ⟨hx, hb, hown, hts, hKK, hKS, hlk, hnm, hrt, hR1, hR2, hR3, hR4⟩ := K
  exact ⟨kk.1, fun H locs ls hH hF h0 h1 hl => lv_lrem hx hb hd hne (kk.2 H locs ls hH hF h0 h1 hl)⟩
theorem go_i2l {k : Kt} {own nm : String} {cc : ByteArray} {ret : Option FieldType} {fr lo : Nat} {pc : Nat} {L st : List Value} {μ : Mm} {x : Int32} (K : Ctx k own nm cc ret fr lo) (hd : decode cc pc = .ok (.i2l, 1)) (kk : Go k (pc + 1) L (.long x.toInt64 :: st) μ) : Go k pc L (.int x :: st) μ := by
  obtain ⟨p, l, e, R, s, m, args, below, meth, c, Q, Z, nx0, sn0, NX, SN⟩ := k
  obtain ⟨hx, hb, hown, hts, hKK, hKS, hlk, hnm, hrt, hR1, hR2, hR3, hR4⟩ := K
  exact ⟨kk.1, fun H locs ls hH hF h0 h1 hl => lv_i2l hx hb hd rfl (kk.2 H locs ls hH hF h0 h1 hl)⟩
theorem go_l2i {k : Kt} {own nm : String} {cc : ByteArray} {ret : Option FieldType} {fr lo : Nat} {pc : Nat} {L st : List Value} {μ : Mm} {x : Int64} (K : Ctx k own nm cc ret fr lo) (hd : decode cc pc = .ok (.l2i, 1)) (kk : Go k (pc + 1) L (.int x.toInt32 :: st) μ) : Go k pc L (.long x :: st) μ := by
  obtain ⟨p, l, e, R, s, m, args, below, meth, c, Q, Z, nx0, sn0, NX, SN⟩ := k
  obtain ⟨hx, hb, hown, hts, hKK, hKS, hlk, hnm, hrt, hR1, hR2, hR3, hR4⟩ := K
  exact ⟨kk.1, fun H locs ls hH hF h0 h1 hl => lv_l2i hx hb hd rfl (kk.2 H locs ls hH hF h0 h1 hl)⟩
theorem go_i2b {k : Kt} {own nm : String} {cc : ByteArray} {ret : Option FieldType} {fr lo : Nat} {pc : Nat} {L st : List Value} {μ : Mm} {x : Int32} (K : Ctx k own nm cc ret fr lo) (hd : decode cc pc = .ok (.i2b, 1)) (kk : Go k (pc + 1) L (.int x.toInt8.toInt32 :: st) μ) : Go k pc L (.int x :: st) μ := by
  obtain ⟨p, l, e, R, s, m, args, below, meth, c, Q, Z, nx0, sn0, NX, SN⟩ := k
  obtain ⟨hx, hb, hown, hts, hKK, hKS, hlk, hnm, hrt, hR1, hR2, hR3, hR4⟩ := K
  exact ⟨kk.1, fun H locs ls hH hF h0 h1 hl => lv_i2b hx hb hd rfl (kk.2 H locs ls hH hF h0 h1 hl)⟩
theorem go_iushr {k : Kt} {own nm : String} {cc : ByteArray} {ret : Option FieldType} {fr lo : Nat} {pc : Nat} {L st : List Value} {μ : Mm} {x y : Int32} (K : Ctx k own nm cc ret fr lo) (hd : decode cc pc = .ok (.iushr, 1)) (kk : Go k (pc + 1) L (.int (x.toUInt32 >>> (y.toUInt32 &&& Int32.toUInt32 31)).toInt32 :: st) μ) : Go k pc L (.int y :: .int x :: st) μ := by
  obtain ⟨p, l, e, R, s, m, args, below, meth, c, Q, Z, nx0, sn0, NX, SN⟩ := k
  obtain ⟨hx, hb, hown, hts, hKK, hKS, hlk, hnm, hrt, hR1, hR2, hR3, hR4⟩ := K
  exact ⟨kk.1, fun H locs ls hH hF h0 h1 hl => lv_iushr hx hb hd rfl (kk.2 H locs ls hH hF h0 h1 hl)⟩
theorem go_lshl {k : Kt} {own nm : String} {cc : ByteArray} {ret : Option FieldType} {fr lo : Nat} {pc : Nat} {L st : List Value} {μ : Mm} {x : Int64} {y : Int32} (K : Ctx k own nm cc ret fr lo) (hd : decode cc pc = .ok (.lshl, 1)) (kk : Go k (pc + 1) L (.long (x <<< (y.toInt64 &&& 63)) :: st) μ) : Go k pc L (.int y :: .long x :: st) μ := by
  obtain ⟨p, l, e, R, s, m, args, below, meth, c, Q, Z, nx0, sn0, NX, SN⟩ := k
  obtain ⟨hx, hb, hown, hts, hKK, hKS, hlk, hnm, hrt, hR1, hR2, hR3, hR4⟩ := K
  exact ⟨kk.1, fun H locs ls hH hF h0 h1 hl => lv_lshl hx hb hd rfl (kk.2 H locs ls hH hF h0 h1 hl)⟩
theorem go_dup {k : Kt} {own nm : String} {cc : ByteArray} {ret : Option FieldType} {fr lo : Nat} {pc : Nat} {L st : List Value} {μ : Mm} {va : Value} (K : Ctx k own nm cc ret fr lo) (hd : decode cc pc = .ok (.dup, 1)) (hva : va.category = 1) (kk : Go k (pc + 1) L (va :: va :: st) μ) : Go k pc L (va :: st) μ := by
  obtain ⟨p, l, e, R, s, m, args, below, meth, c, Q, Z, nx0, sn0, NX, SN⟩ := k
  obtain ⟨hx, hb, hown, hts, hKK, hKS, hlk, hnm, hrt, hR1, hR2, hR3, hR4⟩ := K
  exact ⟨kk.1, fun H locs ls hH hF h0 h1 hl => lv_dup hx hb hd hva (kk.2 H locs ls hH hF h0 h1 hl)⟩
theorem go_pop {k : Kt} {own nm : String} {cc : ByteArray} {ret : Option FieldType} {fr lo : Nat} {pc : Nat} {L st : List Value} {μ : Mm} {va : Value} (K : Ctx k own nm cc ret fr lo) (hd : decode cc pc = .ok (.pop, 1)) (hva : va.category = 1) (kk : Go k (pc + 1) L st μ) : Go k pc L (va :: st) μ := by
  obtain ⟨p, l, e, R, s, m, args, below, meth, c, Q, Z, nx0, sn0, NX, SN⟩ := k
  obtain ⟨hx, hb, hown, hts, hKK, hKS, hlk, hnm, hrt, hR1, hR2, hR3, hR4⟩ := K
  exact ⟨kk.1, fun H locs ls hH hF h0 h1 hl => lv_pop hx hb hd hva (kk.2 H locs ls hH hF h0 h1 hl)⟩
theorem go_dup2 {k : Kt} {own nm : String} {cc : ByteArray} {ret : Option FieldType} {fr lo : Nat} {pc : Nat} {L st : List Value} {μ : Mm} {va vb : Value} (K : Ctx k own nm cc ret fr lo) (hd : decode cc pc = .ok (.dup2, 1)) (hva : va.category = 1) (hvb : vb.category = 1) (kk : Go k (pc + 1) L (va :: vb :: va :: vb :: st) μ) : Go k pc L (va :: vb :: st) μ := by
  obtain ⟨p, l, e, R, s, m, args, below, meth, c, Q, Z, nx0, sn0, NX, SN⟩ := k
  obtain ⟨hx, hb, hown, hts, hKK, hKS, hlk, hnm, hrt, hR1, hR2, hR3, hR4⟩ := K
  exact ⟨kk.1, fun H locs ls hH hF h0 h1 hl => lv_dup2_11 hx hb hd hva hvb (kk.2 H locs ls hH hF h0 h1 hl)⟩
theorem go_goto {k : Kt} {own nm : String} {cc : ByteArray} {ret : Option FieldType} {fr lo : Nat} {pc : Nat} {L st : List Value} {μ : Mm} {off : Int} {tgt : Nat} (K : Ctx k own nm cc ret fr lo) (hd : decode cc pc = .ok (.goto off, 3)) (ht : (pc : Int) + off = (tgt : Int)) (kk : Go k tgt L st μ) : Go k pc L st μ := by
  obtain ⟨p, l, e, R, s, m, args, below, meth, c, Q, Z, nx0, sn0, NX, SN⟩ := k
  obtain ⟨hx, hb, hown, hts, hKK, hKS, hlk, hnm, hrt, hR1, hR2, hR3, hR4⟩ := K
  exact ⟨kk.1, fun H locs ls hH hF h0 h1 hl => lv_goto hx hb hd ht (kk.2 H locs ls hH hF h0 h1 hl)⟩
theorem go_lcmp {k : Kt} {own nm : String} {cc : ByteArray} {ret : Option FieldType} {fr lo : Nat} {pc : Nat} {L st : List Value} {μ : Mm} {x y : Int64} (K : Ctx k own nm cc ret fr lo) (hd : decode cc pc = .ok (.lcmp, 1)) (kk : Go k (pc + 1) L (.int (lg_cmp x y) :: st) μ) : Go k pc L (.long y :: .long x :: st) μ := by
  obtain ⟨p, l, e, R, s, m, args, below, meth, c, Q, Z, nx0, sn0, NX, SN⟩ := k
  obtain ⟨hx, hb, hown, hts, hKK, hKS, hlk, hnm, hrt, hR1, hR2, hR3, hR4⟩ := K
  exact ⟨kk.1, fun H locs ls hH hF h0 h1 hl => W.lcmp hx hb hd (kk.2 H locs ls hH hF h0 h1 hl)⟩
theorem go_iload {k : Kt} {own nm : String} {cc : ByteArray} {ret : Option FieldType} {fr lo : Nat} {pc : Nat} {L st : List Value} {μ : Mm} {i : Nat} {x : Int32} (K : Ctx k own nm cc ret fr lo) (hd : decode cc pc = .ok (.iload i, 2)) (hi : L[i]? = some (.int x)) (kk : Go k (pc + 2) L (.int x :: st) μ) : Go k pc L st μ := by
  obtain ⟨p, l, e, R, s, m, args, below, meth, c, Q, Z, nx0, sn0, NX, SN⟩ := k
  obtain ⟨hx, hb, hown, hts, hKK, hKS, hlk, hnm, hrt, hR1, hR2, hR3, hR4⟩ := K
  exact ⟨kk.1, fun H locs ls hH hF h0 h1 hl => lv_iload hx hb hd (hl.2.2.2 _ _ hi (fun h => by cases h)) (kk.2 H locs ls hH hF h0 h1 hl)⟩
theorem go_iload_n {k : Kt} {own nm : String} {cc : ByteArray} {ret : Option FieldType} {fr lo : Nat} {pc : Nat} {L st : List Value} {μ : Mm} {i : Nat} {q : Fin 4} {x : Int32} (K : Ctx k own nm cc ret fr lo) (hd : decode cc pc = .ok (.iload_n q, 1)) (hq : (q : Nat) = i) (hi : L[i]? = some (.int x)) (kk : Go k (pc + 1) L (.int x :: st) μ) : Go k pc L st μ := by
  obtain ⟨p, l, e, R, s, m, args, below, meth, c, Q, Z, nx0, sn0, NX, SN⟩ := k
  obtain ⟨hx, hb, hown, hts, hKK, hKS, hlk, hnm, hrt, hR1, hR2, hR3, hR4⟩ := K
  exact ⟨kk.1, fun H locs ls hH hF h0 h1 hl => lv_iload_n hx hb hd hq (hl.2.2.2 _ _ hi (fun h => by cases h)) (kk.2 H locs ls hH hF h0 h1 hl)⟩
theorem go_lload {k : Kt} {own nm : String} {cc : ByteArray} {ret : Option FieldType} {fr lo : Nat} {pc : Nat} {L st : List Value} {μ : Mm} {i : Nat} {x : Int64} (K : Ctx k own nm cc ret fr lo) (hd : decode cc pc = .ok (.lload i, 2)) (hi : L[i]? = some (.long x)) (kk : Go k (pc + 2) L (.long x :: st) μ) : Go k pc L st μ := by
  obtain ⟨p, l, e, R, s, m, args, below, meth, c, Q, Z, nx0, sn0, NX, SN⟩ := k
  obtain ⟨hx, hb, hown, hts, hKK, hKS, hlk, hnm, hrt, hR1, hR2, hR3, hR4⟩ := K
  exact ⟨kk.1, fun H locs ls hH hF h0 h1 hl => lv_lload hx hb hd (hl.2.2.2 _ _ hi (fun h => by cases h)) (kk.2 H locs ls hH hF h0 h1 hl)⟩
theorem go_lload_n {k : Kt} {own nm : String} {cc : ByteArray} {ret : Option FieldType} {fr lo : Nat} {pc : Nat} {L st : List Value} {μ : Mm} {i : Nat} {q : Fin 4} {x : Int64} (K : Ctx k own nm cc ret fr lo) (hd : decode cc pc = .ok (.lload_n q, 1)) (hq : (q : Nat) = i) (hi : L[i]? = some (.long x)) (kk : Go k (pc + 1) L (.long x :: st) μ) : Go k pc L st μ := by
  obtain ⟨p, l, e, R, s, m, args, below, meth, c, Q, Z, nx0, sn0, NX, SN⟩ := k
  obtain ⟨hx, hb, hown, hts, hKK, hKS, hlk, hnm, hrt, hR1, hR2, hR3, hR4⟩ := K
  exact ⟨kk.1, fun H locs ls hH hF h0 h1 hl => lv_lload_n hx hb hd hq (hl.2.2.2 _ _ hi (fun h => by cases h)) (kk.2 H locs ls hH hF h0 h1 hl)⟩
theorem go_aload {k : Kt} {own nm : String} {cc : ByteArray} {ret : Option FieldType} {fr lo : Nat} {pc : Nat} {L st : List Value} {μ : Mm} {i : Nat} {x : Nat} (K : Ctx k own nm cc ret fr lo) (hd : decode cc pc = .ok (.aload i, 2)) (hi : L[i]? = some (.ref x)) (kk : Go k (pc + 2) L (.ref x :: st) μ) : Go k pc L st μ := by
  obtain ⟨p, l, e, R, s, m, args, below, meth, c, Q, Z, nx0, sn0, NX, SN⟩ := k
  obtain ⟨hx, hb, hown, hts, hKK, hKS, hlk, hnm, hrt, hR1, hR2, hR3, hR4⟩ := K
  exact ⟨kk.1, fun H locs ls hH hF h0 h1 hl => lv_aload hx hb hd (hl.2.2.2 _ _ hi (fun h => by cases h)) (kk.2 H locs ls hH hF h0 h1 hl)⟩
theorem go_aload_n {k : Kt} {own nm : String} {cc : ByteArray} {ret : Option FieldType} {fr lo : Nat} {pc : Nat} {L st : List Value} {μ : Mm} {i : Nat} {q : Fin 4} {x : Nat} (K : Ctx k own nm cc ret fr lo) (hd : decode cc pc = .ok (.aload_n q, 1)) (hq : (q : Nat) = i) (hi : L[i]? = some (.ref x)) (kk : Go k (pc + 1) L (.ref x :: st) μ) : Go k pc L st μ := by
  obtain ⟨p, l, e, R, s, m, args, below, meth, c, Q, Z, nx0, sn0, NX, SN⟩ := k
  obtain ⟨hx, hb, hown, hts, hKK, hKS, hlk, hnm, hrt, hR1, hR2, hR3, hR4⟩ := K
  exact ⟨kk.1, fun H locs ls hH hF h0 h1 hl => lv_aload_n hx hb hd hq (hl.2.2.2 _ _ hi (fun h => by cases h)) (kk.2 H locs ls hH hF h0 h1 hl)⟩
/-- a store of a value of category 1: not onto the second half of a long that is known -/
def stl1 (L : List Value) (i : Nat) (v : Value) : Option (List Value) := if i < L.length then (match i with
  | 0 => some (L.set i v)
  | j + 1 => if ((L[j]?).getD .null).category = 1 then some (L.set i v) else none) else none
def stl2 (L : List Value) (i : Nat) (v : Value) : Option (List Value) := if i + 1 < L.length then (match i with
  | 0 => some ((L.set i v).set (i + 1) .null)
  | j + 1 => if ((L[j]?).getD .null).category = 1 then some ((L.set i v).set (i + 1) .null) else none) else none
def asL (L : List Value) : List (Nat × Value) := (List.range L.length).filterMap (fun i => match L[i]? with
  | some Value.null => none
  | some v => some (i, v)
  | none => none)
theorem asL_mem {L : List Value} {i : Nat} {v : Value} (h : L[i]? = some v) (hv : v ≠ .null) : (i, v) ∈ asL L := by
  refine List.mem_filterMap.mpr ⟨i, List.mem_range.mpr (List.getElem?_eq_some_iff.mp h).1, ?_⟩
  rw [h]
  cases v <;> first | exact absurd rfl hv | rfl
theorem asL_of {L : List Value} {q : Nat × Value} (h : q ∈ asL L) : L[q.1]? = some q.2 ∧ q.2 ≠ .null := by
  obtain ⟨i, hi, h2⟩ := List.mem_filterMap.mp h
  cases hL : L[i]? with
  | none => rw [hL] at h2; cases h2
  | some v =>
    rw [hL] at h2
    cases v <;> first | (cases h2; done) | (simp at h2; subst h2; exact ⟨hL, fun h => by cases h⟩)
theorem LK.has {ls : Array Slot} {nL : Nat} {L : List Value} (h : LK ls nL L) : lv_has ls nL (asL L) := ⟨h.2.1, h.2.2.1, fun q hq => h.2.2.2 q.1 q.2 (asL_of hq).1 (asL_of hq).2⟩
theorem LK.st1 {ls' ls : Array Slot} {nL i : Nat} {L L' : List Value} {v : Value} (h : LK ls nL L) (hs : stl1 L i v = some L') (hh : lv_has ls' nL ((i, v) :: (asL L).filter (fun q => !(q.1 == i) && !(q.1 + 1 == i && q.2.category == 2)))) : LK ls' nL L' := by
  unfold stl1 at hs
  split at hs
  case isFalse => cases hs
  rename_i hi
  have key : L' = L.set i v ∧ ∀ j, j + 1 = i → ((L[j]?).getD .null).category = 1 := by
    cases i with
    | zero => exact ⟨(Option.some.inj hs).symm, fun j hj => by omega⟩
    | succ j =>
      simp only at hs
      split at hs
      · rename_i hc
        refine ⟨(Option.some.inj hs).symm, fun j' hj => ?_⟩
        have : j' = j := by omega
        subst this
        exact hc
      · cases hs
  obtain ⟨rfl, hc⟩ := key
  refine ⟨by rw [List.length_set]; exact h.1, hh.1, hh.2.1, fun a x hx hn => ?_⟩
  rw [List.getElem?_set] at hx
  split at hx
  · rename_i e
    subst e
    cases hx
    exact hh.2.2 (i, v) List.mem_cons_self
  · rename_i e
    refine hh.2.2 (a, x) (List.mem_cons_of_mem _ (List.mem_filter.mpr ⟨asL_mem hx hn, ?_⟩))
    have h1 : (a == i) = false := by simpa using fun z => e z.symm
    by_cases h2 : a + 1 = i
    · have h3 := hc a h2
      rw [hx] at h3
      simp only [Option.getD_some] at h3
      simp [h1, h3]
    · simp [h1, h2]
theorem LK.st2 {ls' ls : Array Slot} {nL i : Nat} {L L' : List Value} {v : Value} (h : LK ls nL L) (hs : stl2 L i v = some L') (hh : lv_has ls' nL ((i, v) :: (asL L).filter (fun q => !(q.1 == i) && (!(q.1 == i + 1) && !(q.1 + 1 == i && q.2.category == 2))))) : LK ls' nL L' := by
  unfold stl2 at hs
  split at hs
  case isFalse => cases hs
  rename_i hi
  have key : L' = (L.set i v).set (i + 1) .null ∧ ∀ j, j + 1 = i → ((L[j]?).getD .null).category = 1 := by
    cases i with
    | zero => exact ⟨(Option.some.inj hs).symm, fun j hj => by omega⟩
    | succ j =>
      simp only at hs
      split at hs
      · rename_i hc
        refine ⟨(Option.some.inj hs).symm, fun j' hj => ?_⟩
        have : j' = j := by omega
        subst this
        exact hc
      · cases hs
  obtain ⟨rfl, hc⟩ := key
  refine ⟨by rw [List.length_set, List.length_set]; exact h.1, hh.1, hh.2.1, fun a x hx hn => ?_⟩
  rw [List.getElem?_set] at hx
  split at hx
  · split at hx
    · cases hx
      exact absurd rfl hn
    · cases hx
  · rename_i e0
    rw [List.getElem?_set] at hx
    split at hx
    · rename_i e
      subst e
      split at hx
      · cases hx
        exact hh.2.2 (i, v) List.mem_cons_self
      · cases hx
    · rename_i e
      refine hh.2.2 (a, x) (List.mem_cons_of_mem _ (List.mem_filter.mpr ⟨asL_mem hx hn, ?_⟩))
      have h1 : (a == i) = false := by simpa using fun z => e z.symm
      have h0 : (a == i + 1) = false := by simpa using fun z => e0 z.symm
      by_cases h2 : a + 1 = i
      · have h3 := hc a h2
        rw [hx] at h3
        simp only [Option.getD_some] at h3
        simp [h1, h0, h3]
      · simp [h1, h0, h2]
theorem stl1_lt {L L' : List Value} {i : Nat} {v : Value} (h : stl1 L i v = some L') : i < L.length := by
  unfold stl1 at h
  split at h
  · assumption
  · cases h
theorem stl2_lt {L L' : List Value} {i : Nat} {v : Value} (h : stl2 L i v = some L') : i + 1 < L.length := by
  unfold stl2 at h
  split at h
  · assumption
  · cases h
theorem go_istore {k : Kt} {own nm : String} {cc : ByteArray} {ret : Option FieldType} {fr lo : Nat} {pc : Nat} {L st : List Value} {μ : Mm} {i : Nat}  {x : Int32} {L' : List Value} (K : Ctx k own nm cc ret fr lo) (hd : decode cc pc = .ok (.istore i, 2)) (hs : stl1 L i (.int x) = some L') (kk : Go k (pc + 2) L' st μ) : Go k pc L (.int x :: st) μ := by
  obtain ⟨p, l, e, R, s, m, args, below, meth, c, Q, Z, nx0, sn0, NX, SN⟩ := k
  obtain ⟨hx, hb, hown, hts, hKK, hKS, hlk, hnm, hrt, hR1, hR2, hR3, hR4⟩ := K
  exact ⟨kk.1, fun H locs ls hH hF h0 h1 hl => lv_istore hx hb hd  hl.has (by have := stl1_lt hs; have := hl.1; omega) rfl (fun ls' h' => kk.2 H locs ls' hH hF h0 h1 (hl.st1 hs h'))⟩
theorem go_istore_n {k : Kt} {own nm : String} {cc : ByteArray} {ret : Option FieldType} {fr lo : Nat} {pc : Nat} {L st : List Value} {μ : Mm} {i : Nat} {q : Fin 4} {x : Int32} {L' : List Value} (K : Ctx k own nm cc ret fr lo) (hd : decode cc pc = .ok (.istore_n q, 1)) (hq : (q : Nat) = i) (hs : stl1 L i (.int x) = some L') (kk : Go k (pc + 1) L' st μ) : Go k pc L (.int x :: st) μ := by
  obtain ⟨p, l, e, R, s, m, args, below, meth, c, Q, Z, nx0, sn0, NX, SN⟩ := k
  obtain ⟨hx, hb, hown, hts, hKK, hKS, hlk, hnm, hrt, hR1, hR2, hR3, hR4⟩ := K
  exact ⟨kk.1, fun H locs ls hH hF h0 h1 hl => lv_istore_n hx hb hd hq hl.has (by have := stl1_lt hs; have := hl.1; omega) rfl (fun ls' h' => kk.2 H locs ls' hH hF h0 h1 (hl.st1 hs h'))⟩
theorem go_astore {k : Kt} {own nm : String} {cc : ByteArray} {ret : Option FieldType} {fr lo : Nat} {pc : Nat} {L st : List Value} {μ : Mm} {i : Nat}  {x : Nat} {L' : List Value} (K : Ctx k own nm cc ret fr lo) (hd : decode cc pc = .ok (.astore i, 2)) (hs : stl1 L i (.ref x) = some L') (kk : Go k (pc + 2) L' st μ) : Go k pc L (.ref x :: st) μ := by
  obtain ⟨p, l, e, R, s, m, args, below, meth, c, Q, Z, nx0, sn0, NX, SN⟩ := k
  obtain ⟨hx, hb, hown, hts, hKK, hKS, hlk, hnm, hrt, hR1, hR2, hR3, hR4⟩ := K
  exact ⟨kk.1, fun H locs ls hH hF h0 h1 hl => lv_astore hx hb hd  hl.has (by have := stl1_lt hs; have := hl.1; omega) rfl (fun ls' h' => kk.2 H locs ls' hH hF h0 h1 (hl.st1 hs h'))⟩
theorem go_astore_n {k : Kt} {own nm : String} {cc : ByteArray} {ret : Option FieldType} {fr lo : Nat} {pc : Nat} {L st : List Value} {μ : Mm} {i : Nat} {q : Fin 4} {x : Nat} {L' : List Value} (K : Ctx k own nm cc ret fr lo) (hd : decode cc pc = .ok (.astore_n q, 1)) (hq : (q : Nat) = i) (hs : stl1 L i (.ref x) = some L') (kk : Go k (pc + 1) L' st μ) : Go k pc L (.ref x :: st) μ := by
  obtain ⟨p, l, e, R, s, m, args, below, meth, c, Q, Z, nx0, sn0, NX, SN⟩ := k
  obtain ⟨hx, hb, hown, hts, hKK, hKS, hlk, hnm, hrt, hR1, hR2, hR3, hR4⟩ := K
  exact ⟨kk.1, fun H locs ls hH hF h0 h1 hl => lv_astore_n hx hb hd hq hl.has (by have := stl1_lt hs; have := hl.1; omega) rfl (fun ls' h' => kk.2 H locs ls' hH hF h0 h1 (hl.st1 hs h'))⟩
theorem go_lstore {k : Kt} {own nm : String} {cc : ByteArray} {ret : Option FieldType} {fr lo : Nat} {pc : Nat} {L st : List Value} {μ : Mm} {i : Nat}  {x : Int64} {L' : List Value} (K : Ctx k own nm cc ret fr lo) (hd : decode cc pc = .ok (.lstore i, 2)) (hs : stl2 L i (.long x) = some L') (kk : Go k (pc + 2) L' st μ) : Go k pc L (.long x :: st) μ := by
  obtain ⟨p, l, e, R, s, m, args, below, meth, c, Q, Z, nx0, sn0, NX, SN⟩ := k
  obtain ⟨hx, hb, hown, hts, hKK, hKS, hlk, hnm, hrt, hR1, hR2, hR3, hR4⟩ := K
  exact ⟨kk.1, fun H locs ls hH hF h0 h1 hl => lv_lstore hx hb hd  hl.has (by have := stl2_lt hs; have := hl.1; omega) rfl (fun ls' h' => kk.2 H locs ls' hH hF h0 h1 (hl.st2 hs h'))⟩
theorem go_lstore_n {k : Kt} {own nm : String} {cc : ByteArray} {ret : Option FieldType} {fr lo : Nat} {pc : Nat} {L st : List Value} {μ : Mm} {i : Nat} {q : Fin 4} {x : Int64} {L' : List Value} (K : Ctx k own nm cc ret fr lo) (hd : decode cc pc = .ok (.lstore_n q, 1)) (hq : (q : Nat) = i) (hs : stl2 L i (.long x) = some L') (kk : Go k (pc + 1) L' st μ) : Go k pc L (.long x :: st) μ := by
  obtain ⟨p, l, e, R, s, m, args, below, meth, c, Q, Z, nx0, sn0, NX, SN⟩ := k
  obtain ⟨hx, hb, hown, hts, hKK, hKS, hlk, hnm, hrt, hR1, hR2, hR3, hR4⟩ := K
  exact ⟨kk.1, fun H locs ls hH hF h0 h1 hl => lv_lstore_n hx hb hd hq hl.has (by have := stl2_lt hs; have := hl.1; omega) rfl (fun ls' h' => kk.2 H locs ls' hH hF h0 h1 (hl.st2 hs h'))⟩
theorem go_iinc {k : Kt} {own nm : String} {cc : ByteArray} {ret : Option FieldType} {fr lo : Nat} {pc : Nat} {L st : List Value} {μ : Mm} {i : Nat} {n : Int} {x : Int32} {L' : List Value} (K : Ctx k own nm cc ret fr lo) (hd : decode cc pc = .ok (.iinc i n, 3)) (hi : L[i]? = some (.int x)) (hs : stl1 L i (.int (x + Int32.ofInt n)) = some L') (kk : Go k (pc + 3) L' st μ) : Go k pc L st μ := by
  obtain ⟨p, l, e, R, s, m, args, below, meth, c, Q, Z, nx0, sn0, NX, SN⟩ := k
  obtain ⟨hx, hb, hown, hts, hKK, hKS, hlk, hnm, hrt, hR1, hR2, hR3, hR4⟩ := K
  refine ⟨kk.1, fun H locs ls hH hF h0 h1 hl => ?_⟩
  obtain ⟨q, hq⟩ := List.getElem?_of_mem (asL_mem hi (fun h => by cases h))
  exact lv_iinc hx hb hd hl.has hq rfl (by have := stl1_lt hs; have := hl.1; omega) rfl (fun ls' h' => kk.2 H locs ls' hH hF h0 h1 (hl.st1 hs h'))
theorem go_icmp_eq_t {k : Kt} {own nm : String} {cc : ByteArray} {ret : Option FieldType} {fr lo : Nat} {pc : Nat} {L st : List Value} {μ : Mm} {x y : Int32} {off : Int} {tgt : Nat} (K : Ctx k own nm cc ret fr lo) (hd : decode cc pc = .ok (.if_icmp .eq off, 3)) (ht : (pc : Int) + off = (tgt : Int)) (h9 : x = y) (kk : Go k tgt L st μ) : Go k pc L (.int y :: .int x :: st) μ := by
  obtain ⟨p, l, e, R, s, m, args, below, meth, c, Q, Z, nx0, sn0, NX, SN⟩ := k
  obtain ⟨hx, hb, hown, hts, hKK, hKS, hlk, hnm, hrt, hR1, hR2, hR3, hR4⟩ := K
  exact ⟨kk.1, fun H locs ls hH hF h0 h1 hl => lv_icmp_eq hx hb hd ht (fun _ => (kk.2 H locs ls hH hF h0 h1 hl)) (fun h => absurd h9 h)⟩
theorem go_icmp_eq_f {k : Kt} {own nm : String} {cc : ByteArray} {ret : Option FieldType} {fr lo : Nat} {pc : Nat} {L st : List Value} {μ : Mm} {x y : Int32} {off : Int} {tgt : Nat} (K : Ctx k own nm cc ret fr lo) (hd : decode cc pc = .ok (.if_icmp .eq off, 3)) (ht : (pc : Int) + off = (tgt : Int)) (h9 : ¬ (x = y)) (kk : Go k (pc + 3) L st μ) : Go k pc L (.int y :: .int x :: st) μ := by
  obtain ⟨p, l, e, R, s, m, args, below, meth, c, Q, Z, nx0, sn0, NX, SN⟩ := k
  obtain ⟨hx, hb, hown, hts, hKK, hKS, hlk, hnm, hrt, hR1, hR2, hR3, hR4⟩ := K
  exact ⟨kk.1, fun H locs ls hH hF h0 h1 hl => lv_icmp_eq hx hb hd ht (fun h => absurd h h9) (fun _ => (kk.2 H locs ls hH hF h0 h1 hl))⟩
theorem go_if_eq_t {k : Kt} {own nm : String} {cc : ByteArray} {ret : Option FieldType} {fr lo : Nat} {pc : Nat} {L st : List Value} {μ : Mm} {x : Int32} {off : Int} {tgt : Nat} (K : Ctx k own nm cc ret fr lo) (hd : decode cc pc = .ok (.ifCond .eq off, 3)) (ht : (pc : Int) + off = (tgt : Int)) (h9 : x = 0) (kk : Go k tgt L st μ) : Go k pc L (.int x :: st) μ := by
  obtain ⟨p, l, e, R, s, m, args, below, meth, c, Q, Z, nx0, sn0, NX, SN⟩ := k
  obtain ⟨hx, hb, hown, hts, hKK, hKS, hlk, hnm, hrt, hR1, hR2, hR3, hR4⟩ := K
  exact ⟨kk.1, fun H locs ls hH hF h0 h1 hl => lv_if_eq hx hb hd ht (fun _ => (kk.2 H locs ls hH hF h0 h1 hl)) (fun h => absurd h9 h)⟩
theorem go_if_eq_f {k : Kt} {own nm : String} {cc : ByteArray} {ret : Option FieldType} {fr lo : Nat} {pc : Nat} {L st : List Value} {μ : Mm} {x : Int32} {off : Int} {tgt : Nat} (K : Ctx k own nm cc ret fr lo) (hd : decode cc pc = .ok (.ifCond .eq off, 3)) (ht : (pc : Int) + off = (tgt : Int)) (h9 : ¬ (x = 0)) (kk : Go k (pc + 3) L st μ) : Go k pc L (.int x :: st) μ := by
  obtain ⟨p, l, e, R, s, m, args, below, meth, c, Q, Z, nx0, sn0, NX, SN⟩ := k
  obtain ⟨hx, hb, hown, hts, hKK, hKS, hlk, hnm, hrt, hR1, hR2, hR3, hR4⟩ := K
  exact ⟨kk.1, fun H locs ls hH hF h0 h1 hl => lv_if_eq hx hb hd ht (fun h => absurd h h9) (fun _ => (kk.2 H locs ls hH hF h0 h1 hl))⟩
theorem go_icmp_ne_t {k : Kt} {own nm : String} {cc : ByteArray} {ret : Option FieldType} {fr lo : Nat} {pc : Nat} {L st : List Value} {μ : Mm} {x y : Int32} {off : Int} {tgt : Nat} (K : Ctx k own nm cc ret fr lo) (hd : decode cc pc = .ok (.if_icmp .ne off, 3)) (ht : (pc : Int) + off = (tgt : Int)) (h9 : ¬ x = y) (kk : Go k tgt L st μ) : Go k pc L (.int y :: .int x :: st) μ := by
  obtain ⟨p, l, e, R, s, m, args, below, meth, c, Q, Z, nx0, sn0, NX, SN⟩ := k
  obtain ⟨hx, hb, hown, hts, hKK, hKS, hlk, hnm, hrt, hR1, hR2, hR3, hR4⟩ := K
  exact ⟨kk.1, fun H locs ls hH hF h0 h1 hl => lv_icmp_ne hx hb hd ht (fun _ => (kk.2 H locs ls hH hF h0 h1 hl)) (fun h => absurd h h9)⟩
theorem go_icmp_ne_f {k : Kt} {own nm : String} {cc : ByteArray} {ret : Option FieldType} {fr lo : Nat} {pc : Nat} {L st : List Value} {μ : Mm} {x y : Int32} {off : Int} {tgt : Nat} (K : Ctx k own nm cc ret fr lo) (hd : decode cc pc = .ok (.if_icmp .ne off, 3)) (ht : (pc : Int) + off = (tgt : Int)) (h9 : x = y) (kk : Go k (pc + 3) L st μ) : Go k pc L (.int y :: .int x :: st) μ := by
  obtain ⟨p, l, e, R, s, m, args, below, meth, c, Q, Z, nx0, sn0, NX, SN⟩ := k
  obtain ⟨hx, hb, hown, hts, hKK, hKS, hlk, hnm, hrt, hR1, hR2, hR3, hR4⟩ := K
  exact ⟨kk.1, fun H locs ls hH hF h0 h1 hl => lv_icmp_ne hx hb hd ht (fun h => absurd h9 h) (fun _ => (kk.2 H locs ls hH hF h0 h1 hl))⟩
theorem go_if_ne_t {k : Kt} {own nm : String} {cc : ByteArray} {ret : Option FieldType} {fr lo : Nat} {pc : Nat} {L st : List Value} {μ : Mm} {x : Int32} {off : Int} {tgt : Nat} (K : Ctx k own nm cc ret fr lo) (hd : decode cc pc = .ok (.ifCond .ne off, 3)) (ht : (pc : Int) + off = (tgt : Int)) (h9 : ¬ x = 0) (kk : Go k tgt L st μ) : Go k pc L (.int x :: st) μ := by
  obtain ⟨p, l, e, R, s, m, args, below, meth, c, Q, Z, nx0, sn0, NX, SN⟩ := k
  obtain ⟨hx, hb, hown, hts, hKK, hKS, hlk, hnm, hrt, hR1, hR2, hR3, hR4⟩ := K
  exact ⟨kk.1, fun H locs ls hH hF h0 h1 hl => lv_if_ne hx hb hd ht (fun _ => (kk.2 H locs ls hH hF h0 h1 hl)) (fun h => absurd h h9)⟩
theorem go_if_ne_f {k : Kt} {own nm : String} {cc : ByteArray} {ret : Option FieldType} {fr lo : Nat} {pc : Nat} {L st : List Value} {μ : Mm} {x : Int32} {off : Int} {tgt : Nat} (K : Ctx k own nm cc ret fr lo) (hd : decode cc pc = .ok (.ifCond .ne off, 3)) (ht : (pc : Int) + off = (tgt : Int)) (h9 : x = 0) (kk : Go k (pc + 3) L st μ) : Go k pc L (.int x :: st) μ := by
  obtain ⟨p, l, e, R, s, m, args, below, meth, c, Q, Z, nx0, sn0, NX, SN⟩ := k
  obtain ⟨hx, hb, hown, hts, hKK, hKS, hlk, hnm, hrt, hR1, hR2, hR3, hR4⟩ := K
  exact ⟨kk.1, fun H locs ls hH hF h0 h1 hl => lv_if_ne hx hb hd ht (fun h => absurd h9 h) (fun _ => (kk.2 H locs ls hH hF h0 h1 hl))⟩
theorem go_icmp_lt_t {k : Kt} {own nm : String} {cc : ByteArray} {ret : Option FieldType} {fr lo : Nat} {pc : Nat} {L st : List Value} {μ : Mm} {x y : Int32} {off : Int} {tgt : Nat} (K : Ctx k own nm cc ret fr lo) (hd : decode cc pc = .ok (.if_icmp .lt off, 3)) (ht : (pc : Int) + off = (tgt : Int)) (h9 : x < y) (kk : Go k tgt L st μ) : Go k pc L (.int y :: .int x :: st) μ := by
  obtain ⟨p, l, e, R, s, m, args, below, meth, c, Q, Z, nx0, sn0, NX, SN⟩ := k
  obtain ⟨hx, hb, hown, hts, hKK, hKS, hlk, hnm, hrt, hR1, hR2, hR3, hR4⟩ := K
  exact ⟨kk.1, fun H locs ls hH hF h0 h1 hl => lv_icmp_lt hx hb hd ht (fun _ => (kk.2 H locs ls hH hF h0 h1 hl)) (fun h => absurd h9 h)⟩
theorem go_icmp_lt_f {k : Kt} {own nm : String} {cc : ByteArray} {ret : Option FieldType} {fr lo : Nat} {pc : Nat} {L st : List Value} {μ : Mm} {x y : Int32} {off : Int} {tgt : Nat} (K : Ctx k own nm cc ret fr lo) (hd : decode cc pc = .ok (.if_icmp .lt off, 3)) (ht : (pc : Int) + off = (tgt : Int)) (h9 : ¬ (x < y)) (kk : Go k (pc + 3) L st μ) : Go k pc L (.int y :: .int x :: st) μ := by
  obtain ⟨p, l, e, R, s, m, args, below, meth, c, Q, Z, nx0, sn0, NX, SN⟩ := k
  obtain ⟨hx, hb, hown, hts, hKK, hKS, hlk, hnm, hrt, hR1, hR2, hR3, hR4⟩ := K
  exact ⟨kk.1, fun H locs ls hH hF h0 h1 hl => lv_icmp_lt hx hb hd ht (fun h => absurd h h9) (fun _ => (kk.2 H locs ls hH hF h0 h1 hl))⟩
theorem go_if_lt_t {k : Kt} {own nm : String} {cc : ByteArray} {ret : Option FieldType} {fr lo : Nat} {pc : Nat} {L st : List Value} {μ : Mm} {x : Int32} {off : Int} {tgt : Nat} (K : Ctx k own nm cc ret fr lo) (hd : decode cc pc = .ok (.ifCond .lt off, 3)) (ht : (pc : Int) + off = (tgt : Int)) (h9 : x < 0) (kk : Go k tgt L st μ) : Go k pc L (.int x :: st) μ := by
  obtain ⟨p, l, e, R, s, m, args, below, meth, c, Q, Z, nx0, sn0, NX, SN⟩ := k
  obtain ⟨hx, hb, hown, hts, hKK, hKS, hlk, hnm, hrt, hR1, hR2, hR3, hR4⟩ := K
  exact ⟨kk.1, fun H locs ls hH hF h0 h1 hl => lv_if_lt hx hb hd ht (fun _ => (kk.2 H locs ls hH hF h0 h1 hl)) (fun h => absurd h9 h)⟩
theorem go_if_lt_f {k : Kt} {own nm : String} {cc : ByteArray} {ret : Option FieldType} {fr lo : Nat} {pc : Nat} {L st : List Value} {μ : Mm} {x : Int32} {off : Int} {tgt : Nat} (K : Ctx k own nm cc ret fr lo) (hd : decode cc pc = .ok (.ifCond .lt off, 3)) (ht : (pc : Int) + off = (tgt : Int)) (h9 : ¬ (x < 0)) (kk : Go k (pc + 3) L st μ) : Go k pc L (.int x :: st) μ := by
  obtain ⟨p, l, e, R, s, m, args, below, meth, c, Q, Z, nx0, sn0, NX, SN⟩ := k
  obtain ⟨hx, hb, hown, hts, hKK, hKS, hlk, hnm, hrt, hR1, hR2, hR3, hR4⟩ := K
  exact ⟨kk.1, fun H locs ls hH hF h0 h1 hl => lv_if_lt hx hb hd ht (fun h => absurd h h9) (fun _ => (kk.2 H locs ls hH hF h0 h1 hl))⟩
theorem go_icmp_ge_t {k : Kt} {own nm : String} {cc : ByteArray} {ret : Option FieldType} {fr lo : Nat} {pc : Nat} {L st : List Value} {μ : Mm} {x y : Int32} {off : Int} {tgt : Nat} (K : Ctx k own nm cc ret fr lo) (hd : decode cc pc = .ok (.if_icmp .ge off, 3)) (ht : (pc : Int) + off = (tgt : Int)) (h9 : y ≤ x) (kk : Go k tgt L st μ) : Go k pc L (.int y :: .int x :: st) μ := by
  obtain ⟨p, l, e, R, s, m, args, below, meth, c, Q, Z, nx0, sn0, NX, SN⟩ := k
  obtain ⟨hx, hb, hown, hts, hKK, hKS, hlk, hnm, hrt, hR1, hR2, hR3, hR4⟩ := K
  exact ⟨kk.1, fun H locs ls hH hF h0 h1 hl => lv_icmp_ge hx hb hd ht (fun _ => (kk.2 H locs ls hH hF h0 h1 hl)) (fun h => absurd h9 h)⟩
theorem go_icmp_ge_f {k : Kt} {own nm : String} {cc : ByteArray} {ret : Option FieldType} {fr lo : Nat} {pc : Nat} {L st : List Value} {μ : Mm} {x y : Int32} {off : Int} {tgt : Nat} (K : Ctx k own nm cc ret fr lo) (hd : decode cc pc = .ok (.if_icmp .ge off, 3)) (ht : (pc : Int) + off = (tgt : Int)) (h9 : ¬ (y ≤ x)) (kk : Go k (pc + 3) L st μ) : Go k pc L (.int y :: .int x :: st) μ := by
  obtain ⟨p, l, e, R, s, m, args, below, meth, c, Q, Z, nx0, sn0, NX, SN⟩ := k
  obtain ⟨hx, hb, hown, hts, hKK, hKS, hlk, hnm, hrt, hR1, hR2, hR3, hR4⟩ := K
  exact ⟨kk.1, fun H locs ls hH hF h0 h1 hl => lv_icmp_ge hx hb hd ht (fun h => absurd h h9) (fun _ => (kk.2 H locs ls hH hF h0 h1 hl))⟩
theorem go_if_ge_t {k : Kt} {own nm : String} {cc : ByteArray} {ret : Option FieldType} {fr lo : Nat} {pc : Nat} {L st : List Value} {μ : Mm} {x : Int32} {off : Int} {tgt : Nat} (K : Ctx k own nm cc ret fr lo) (hd : decode cc pc = .ok (.ifCond .ge off, 3)) (ht : (pc : Int) + off = (tgt : Int)) (h9 : 0 ≤ x) (kk : Go k tgt L st μ) : Go k pc L (.int x :: st) μ := by
  obtain ⟨p, l, e, R, s, m, args, below, meth, c, Q, Z, nx0, sn0, NX, SN⟩ := k
  obtain ⟨hx, hb, hown, hts, hKK, hKS, hlk, hnm, hrt, hR1, hR2, hR3, hR4⟩ := K
  exact ⟨kk.1, fun H locs ls hH hF h0 h1 hl => lv_if_ge hx hb hd ht (fun _ => (kk.2 H locs ls hH hF h0 h1 hl)) (fun h => absurd h9 h)⟩
theorem go_if_ge_f {k : Kt} {own nm : String} {cc : ByteArray} {ret : Option FieldType} {fr lo : Nat} {pc : Nat} {L st : List Value} {μ : Mm} {x : Int32} {off : Int} {tgt : Nat} (K : Ctx k own nm cc ret fr lo) (hd : decode cc pc = .ok (.ifCond .ge off, 3)) (ht : (pc : Int) + off = (tgt : Int)) (h9 : ¬ (0 ≤ x)) (kk : Go k (pc + 3) L st μ) : Go k pc L (.int x :: st) μ := by
  obtain ⟨p, l, e, R, s, m, args, below, meth, c, Q, Z, nx0, sn0, NX, SN⟩ := k
  obtain ⟨hx, hb, hown, hts, hKK, hKS, hlk, hnm, hrt, hR1, hR2, hR3, hR4⟩ := K
  exact ⟨kk.1, fun H locs ls hH hF h0 h1 hl => lv_if_ge hx hb hd ht (fun h => absurd h h9) (fun _ => (kk.2 H locs ls hH hF h0 h1 hl))⟩
theorem go_icmp_gt_t {k : Kt} {own nm : String} {cc : ByteArray} {ret : Option FieldType} {fr lo : Nat} {pc : Nat} {L st : List Value} {μ : Mm} {x y : Int32} {off : Int} {tgt : Nat} (K : Ctx k own nm cc ret fr lo) (hd : decode cc pc = .ok (.if_icmp .gt off, 3)) (ht : (pc : Int) + off = (tgt : Int)) (h9 : y < x) (kk : Go k tgt L st μ) : Go k pc L (.int y :: .int x :: st) μ := by
  obtain ⟨p, l, e, R, s, m, args, below, meth, c, Q, Z, nx0, sn0, NX, SN⟩ := k
  obtain ⟨hx, hb, hown, hts, hKK, hKS, hlk, hnm, hrt, hR1, hR2, hR3, hR4⟩ := K
  exact ⟨kk.1, fun H locs ls hH hF h0 h1 hl => lv_icmp_gt hx hb hd ht (fun _ => (kk.2 H locs ls hH hF h0 h1 hl)) (fun h => absurd h9 h)⟩
theorem go_icmp_gt_f {k : Kt} {own nm : String} {cc : ByteArray} {ret : Option FieldType} {fr lo : Nat} {pc : Nat} {L st : List Value} {μ : Mm} {x y : Int32} {off : Int} {tgt : Nat} (K : Ctx k own nm cc ret fr lo) (hd : decode cc pc = .ok (.if_icmp .gt off, 3)) (ht : (pc : Int) + off = (tgt : Int)) (h9 : ¬ (y < x)) (kk : Go k (pc + 3) L st μ) : Go k pc L (.int y :: .int x :: st) μ := by
  obtain ⟨p, l, e, R, s, m, args, below, meth, c, Q, Z, nx0, sn0, NX, SN⟩ := k
  obtain ⟨hx, hb, hown, hts, hKK, hKS, hlk, hnm, hrt, hR1, hR2, hR3, hR4⟩ := K
  exact ⟨kk.1, fun H locs ls hH hF h0 h1 hl => lv_icmp_gt hx hb hd ht (fun h => absurd h h9) (fun _ => (kk.2 H locs ls hH hF h0 h1 hl))⟩
theorem go_if_gt_t {k : Kt} {own nm : String} {cc : ByteArray} {ret : Option FieldType} {fr lo : Nat} {pc : Nat} {L st : List Value} {μ : Mm} {x : Int32} {off : Int} {tgt : Nat} (K : Ctx k own nm cc ret fr lo) (hd : decode cc pc = .ok (.ifCond .gt off, 3)) (ht : (pc : Int) + off = (tgt : Int)) (h9 : 0 < x) (kk : Go k tgt L st μ) : Go k pc L (.int x :: st) μ := by
  obtain ⟨p, l, e, R, s, m, args, below, meth, c, Q, Z, nx0, sn0, NX, SN⟩ := k
  obtain ⟨hx, hb, hown, hts, hKK, hKS, hlk, hnm, hrt, hR1, hR2, hR3, hR4⟩ := K
  exact ⟨kk.1, fun H locs ls hH hF h0 h1 hl => lv_if_gt hx hb hd ht (fun _ => (kk.2 H locs ls hH hF h0 h1 hl)) (fun h => absurd h9 h)⟩
theorem go_if_gt_f {k : Kt} {own nm : String} {cc : ByteArray} {ret : Option FieldType} {fr lo : Nat} {pc : Nat} {L st : List Value} {μ : Mm} {x : Int32} {off : Int} {tgt : Nat} (K : Ctx k own nm cc ret fr lo) (hd : decode cc pc = .ok (.ifCond .gt off, 3)) (ht : (pc : Int) + off = (tgt : Int)) (h9 : ¬ (0 < x)) (kk : Go k (pc + 3) L st μ) : Go k pc L (.int x :: st) μ := by
  obtain ⟨p, l, e, R, s, m, args, below, meth, c, Q, Z, nx0, sn0, NX, SN⟩ := k
  obtain ⟨hx, hb, hown, hts, hKK, hKS, hlk, hnm, hrt, hR1, hR2, hR3, hR4⟩ := K
  exact ⟨kk.1, fun H locs ls hH hF h0 h1 hl => lv_if_gt hx hb hd ht (fun h => absurd h h9) (fun _ => (kk.2 H locs ls hH hF h0 h1 hl))⟩
theorem go_icmp_le_t {k : Kt} {own nm : String} {cc : ByteArray} {ret : Option FieldType} {fr lo : Nat} {pc : Nat} {L st : List Value} {μ : Mm} {x y : Int32} {off : Int} {tgt : Nat} (K : Ctx k own nm cc ret fr lo) (hd : decode cc pc = .ok (.if_icmp .le off, 3)) (ht : (pc : Int) + off = (tgt : Int)) (h9 : x ≤ y) (kk : Go k tgt L st μ) : Go k pc L (.int y :: .int x :: st) μ := by
  obtain ⟨p, l, e, R, s, m, args, below, meth, c, Q, Z, nx0, sn0, NX, SN⟩ := k
  obtain ⟨hx, hb, hown, hts, hKK, hKS, hlk, hnm, hrt, hR1, hR2, hR3, hR4⟩ := K
  exact ⟨kk.1, fun H locs ls hH hF h0 h1 hl => lv_icmp_le hx hb hd ht (fun _ => (kk.2 H locs ls hH hF h0 h1 hl)) (fun h => absurd h9 h)⟩
theorem go_icmp_le_f {k : Kt} {own nm : String} {cc : ByteArray} {ret : Option FieldType} {fr lo : Nat} {pc : Nat} {L st : List Value} {μ : Mm} {x y : Int32} {off : Int} {tgt : Nat} (K : Ctx k own nm cc ret fr lo) (hd : decode cc pc = .ok (.if_icmp .le off, 3)) (ht : (pc : Int) + off = (tgt : Int)) (h9 : ¬ (x ≤ y)) (kk : Go k (pc + 3) L st μ) : Go k pc L (.int y :: .int x :: st) μ := by
  obtain ⟨p, l, e, R, s, m, args, below, meth, c, Q, Z, nx0, sn0, NX, SN⟩ := k
  obtain ⟨hx, hb, hown, hts, hKK, hKS, hlk, hnm, hrt, hR1, hR2, hR3, hR4⟩ := K
  exact ⟨kk.1, fun H locs ls hH hF h0 h1 hl => lv_icmp_le hx hb hd ht (fun h => absurd h h9) (fun _ => (kk.2 H locs ls hH hF h0 h1 hl))⟩
theorem go_if_le_t {k : Kt} {own nm : String} {cc : ByteArray} {ret : Option FieldType} {fr lo : Nat} {pc : Nat} {L st : List Value} {μ : Mm} {x : Int32} {off : Int} {tgt : Nat} (K : Ctx k own nm cc ret fr lo) (hd : decode cc pc = .ok (.ifCond .le off, 3)) (ht : (pc : Int) + off = (tgt : Int)) (h9 : x ≤ 0) (kk : Go k tgt L st μ) : Go k pc L (.int x :: st) μ := by
  obtain ⟨p, l, e, R, s, m, args, below, meth, c, Q, Z, nx0, sn0, NX, SN⟩ := k
  obtain ⟨hx, hb, hown, hts, hKK, hKS, hlk, hnm, hrt, hR1, hR2, hR3, hR4⟩ := K
  exact ⟨kk.1, fun H locs ls hH hF h0 h1 hl => lv_if_le hx hb hd ht (fun _ => (kk.2 H locs ls hH hF h0 h1 hl)) (fun h => absurd h9 h)⟩
theorem go_if_le_f {k : Kt} {own nm : String} {cc : ByteArray} {ret : Option FieldType} {fr lo : Nat} {pc : Nat} {L st : List Value} {μ : Mm} {x : Int32} {off : Int} {tgt : Nat} (K : Ctx k own nm cc ret fr lo) (hd : decode cc pc = .ok (.ifCond .le off, 3)) (ht : (pc : Int) + off = (tgt : Int)) (h9 : ¬ (x ≤ 0)) (kk : Go k (pc + 3) L st μ) : Go k pc L (.int x :: st) μ := by
  obtain ⟨p, l, e, R, s, m, args, below, meth, c, Q, Z, nx0, sn0, NX, SN⟩ := k
  obtain ⟨hx, hb, hown, hts, hKK, hKS, hlk, hnm, hrt, hR1, hR2, hR3, hR4⟩ := K
  exact ⟨kk.1, fun H locs ls hH hF h0 h1 hl => lv_if_le hx hb hd ht (fun h => absurd h h9) (fun _ => (kk.2 H locs ls hH hF h0 h1 hl))⟩
theorem go_ifnull {k : Kt} {own nm : String} {cc : ByteArray} {ret : Option FieldType} {fr lo : Nat} {pc : Nat} {L st : List Value} {μ : Mm} {x : Nat} {off : Int} (K : Ctx k own nm cc ret fr lo) (hd : decode cc pc = .ok (.ifnull off, 3)) (kk : Go k (pc + 3) L st μ) : Go k pc L (.ref x :: st) μ := by
  obtain ⟨p, l, e, R, s, m, args, below, meth, c, Q, Z, nx0, sn0, NX, SN⟩ := k
  obtain ⟨hx, hb, hown, hts, hKK, hKS, hlk, hnm, hrt, hR1, hR2, hR3, hR4⟩ := K
  exact ⟨kk.1, fun H locs ls hH hF h0 h1 hl => lv_ifnull hx hb hd (kk.2 H locs ls hH hF h0 h1 hl)⟩
theorem go_ifnullN {k : Kt} {own nm : String} {cc : ByteArray} {ret : Option FieldType} {fr lo : Nat} {pc : Nat} {L st : List Value} {μ : Mm} {off : Int} {tgt : Nat} (K : Ctx k own nm cc ret fr lo) (hd : decode cc pc = .ok (.ifnull off, 3)) (ht : (pc : Int) + off = (tgt : Int)) (kk : Go k tgt L st μ) : Go k pc L (.null :: st) μ := by
  obtain ⟨p, l, e, R, s, m, args, below, meth, c, Q, Z, nx0, sn0, NX, SN⟩ := k
  obtain ⟨hx, hb, hown, hts, hKK, hKS, hlk, hnm, hrt, hR1, hR2, hR3, hR4⟩ := K
  exact ⟨kk.1, fun H locs ls hH hF h0 h1 hl => lv_ifnullN hx hb hd ht (kk.2 H locs ls hH hF h0 h1 hl)⟩
theorem go_ifnonnull {k : Kt} {own nm : String} {cc : ByteArray} {ret : Option FieldType} {fr lo : Nat} {pc : Nat} {L st : List Value} {μ : Mm} {x : Nat} {off : Int} {tgt : Nat} (K : Ctx k own nm cc ret fr lo) (hd : decode cc pc = .ok (.ifnonnull off, 3)) (ht : (pc : Int) + off = (tgt : Int)) (kk : Go k tgt L st μ) : Go k pc L (.ref x :: st) μ := by
  obtain ⟨p, l, e, R, s, m, args, below, meth, c, Q, Z, nx0, sn0, NX, SN⟩ := k
  obtain ⟨hx, hb, hown, hts, hKK, hKS, hlk, hnm, hrt, hR1, hR2, hR3, hR4⟩ := K
  exact ⟨kk.1, fun H locs ls hH hF h0 h1 hl => lv_ifnonnull hx hb hd ht (kk.2 H locs ls hH hF h0 h1 hl)⟩
theorem go_ifnonnullN {k : Kt} {own nm : String} {cc : ByteArray} {ret : Option FieldType} {fr lo : Nat} {pc : Nat} {L st : List Value} {μ : Mm} {off : Int} (K : Ctx k own nm cc ret fr lo) (hd : decode cc pc = .ok (.ifnonnull off, 3)) (kk : Go k (pc + 3) L st μ) : Go k pc L (.null :: st) μ := by
  obtain ⟨p, l, e, R, s, m, args, below, meth, c, Q, Z, nx0, sn0, NX, SN⟩ := k
  obtain ⟨hx, hb, hown, hts, hKK, hKS, hlk, hnm, hrt, hR1, hR2, hR3, hR4⟩ := K
  exact ⟨kk.1, fun H locs ls hH hF h0 h1 hl => lv_ifnonnullN hx hb hd (kk.2 H locs ls hH hF h0 h1 hl)⟩
theorem go_tableOut {k : Kt} {own nm : String} {cc : ByteArray} {ret : Option FieldType} {fr lo : Nat} {pc : Nat} {L st : List Value} {μ : Mm} {dflt lo9 hi9 : Int} {offs : Array Int} {len : Nat} {x : Int32} {tgt : Nat} (K : Ctx k own nm cc ret fr lo) (hd : decode cc pc = .ok (.tableswitch dflt lo9 hi9 offs, len)) (h : x.toInt < lo9 ∨ hi9 < x.toInt) (ht : (pc : Int) + dflt = (tgt : Int)) (kk : Go k tgt L st μ) : Go k pc L (.int x :: st) μ := by
  obtain ⟨p, l, e, R, s, m, args, below, meth, c, Q, Z, nx0, sn0, NX, SN⟩ := k
  obtain ⟨hx, hb, hown, hts, hKK, hKS, hlk, hnm, hrt, hR1, hR2, hR3, hR4⟩ := K
  exact ⟨kk.1, fun H locs ls hH hF h0 h1 hl => lv_tableOut hx hb hd h ht (kk.2 H locs ls hH hF h0 h1 hl)⟩
theorem go_tableIn {k : Kt} {own nm : String} {cc : ByteArray} {ret : Option FieldType} {fr lo : Nat} {pc : Nat} {L st : List Value} {μ : Mm} {dflt lo9 hi9 : Int} {offs : Array Int} {len : Nat} {x : Int32} {off : Int} {tgt : Nat} (K : Ctx k own nm cc ret fr lo) (hd : decode cc pc = .ok (.tableswitch dflt lo9 hi9 offs, len)) (h : ¬ x.toInt < lo9) (h2 : ¬ hi9 < x.toInt) (ho : offs[(x.toInt - lo9).toNat]? = some off) (ht : (pc : Int) + off = (tgt : Int)) (kk : Go k tgt L st μ) : Go k pc L (.int x :: st) μ := by
  obtain ⟨p, l, e, R, s, m, args, below, meth, c, Q, Z, nx0, sn0, NX, SN⟩ := k
  obtain ⟨hx, hb, hown, hts, hKK, hKS, hlk, hnm, hrt, hR1, hR2, hR3, hR4⟩ := K
  exact ⟨kk.1, fun H locs ls hH hF h0 h1 hl => lv_tableIn hx hb hd h h2 ho ht (kk.2 H locs ls hH hF h0 h1 hl)⟩
theorem go_ldc {k : Kt} {own nm : String} {cc : ByteArray} {ret : Option FieldType} {fr lo : Nat} {pc : Nat} {L st : List Value} {μ : Mm} {index ln9 : Nat} {v : Int32} (K : Ctx k own nm cc ret fr lo) (hd : decode cc pc = .ok (.ldc index, 2)) (hq : Cond.constant own index v ∈ lw_all) (kk : Go k (pc + 2) L (.int v :: st) μ) : Go k pc L st μ := by
  obtain ⟨p, l, e, R, s, m, args, below, meth, c, Q, Z, nx0, sn0, NX, SN⟩ := k
  obtain ⟨hx, hb, hown, hts, hKK, hKS, hlk, hnm, hrt, hR1, hR2, hR3, hR4⟩ := K
  exact ⟨kk.1, fun H locs ls hH hF h0 h1 hl => lv_ldc hx hb hown (hts _ hq) hd (kk.2 H locs ls hH hF h0 h1 hl)⟩
theorem go_ldcw {k : Kt} {own nm : String} {cc : ByteArray} {ret : Option FieldType} {fr lo : Nat} {pc : Nat} {L st : List Value} {μ : Mm} {index ln9 : Nat} {v : Int32} (K : Ctx k own nm cc ret fr lo) (hd : decode cc pc = .ok (.ldc_w index, 3)) (hq : Cond.constant own index v ∈ lw_all) (kk : Go k (pc + 3) L (.int v :: st) μ) : Go k pc L st μ := by
  obtain ⟨p, l, e, R, s, m, args, below, meth, c, Q, Z, nx0, sn0, NX, SN⟩ := k
  obtain ⟨hx, hb, hown, hts, hKK, hKS, hlk, hnm, hrt, hR1, hR2, hR3, hR4⟩ := K
  exact ⟨kk.1, fun H locs ls hH hF h0 h1 hl => lv_ldcw hx hb hown (hts _ hq) hd (kk.2 H locs ls hH hF h0 h1 hl)⟩
theorem go_ldc2 {k : Kt} {own nm : String} {cc : ByteArray} {ret : Option FieldType} {fr lo : Nat} {pc : Nat} {L st : List Value} {μ : Mm} {index : Nat} {v : Int64} (K : Ctx k own nm cc ret fr lo) (hd : decode cc pc = .ok (.ldc2_w index, 3)) (hq : Cond.constantLong own index v ∈ lw_all) (kk : Go k (pc + 3) L (.long v :: st) μ) : Go k pc L st μ := by
  obtain ⟨p, l, e, R, s, m, args, below, meth, c, Q, Z, nx0, sn0, NX, SN⟩ := k
  obtain ⟨hx, hb, hown, hts, hKK, hKS, hlk, hnm, hrt, hR1, hR2, hR3, hR4⟩ := K
  exact ⟨kk.1, fun H locs ls hH hF h0 h1 hl => lv_ldc2 hx hb hown (hts _ hq) hd (kk.2 H locs ls hH hF h0 h1 hl)⟩
theorem go_ireturn {k : Kt} {own nm : String} {cc : ByteArray} {fr lo : Nat} {pc : Nat} {L st : List Value} {μ : Mm} {v : Int32} {ty : FieldType} (K : Ctx k own nm cc (some ty) fr lo) (hn : narrow ty (.int v) = .int v) (hd : decode cc pc = .ok (.ireturn, 1)) (hR : Rt k (some (.int v)) μ) : Go k pc L [.int v] μ := by
  obtain ⟨p, l, e, R, s, m, args, below, meth, c, Q, Z, nx0, sn0, NX, SN⟩ := k
  obtain ⟨hx, hb, hown, hts, hKK, hKS, hlk, hnm, hrt, hR1, hR2, hR3, hR4⟩ := K
  obtain ⟨r1, r2, rfl⟩ := hR
  refine ⟨⟨r1, r2⟩, fun H locs ls hH hF h0 h1 hl => ?_⟩
  refine W.widen (k := NX - nx0) (n := SN - sn0) (by omega) (by omega) ?_
  exact W.zret hx hb hrt hn (fun t ht hW => ⟨rfl, by rw [ht]; exact hH, by rw [ht]; exact hF.1, fun q hq => by rw [ht]; exact hF.2.1 q hq⟩) hF.2.2.1 hd hlk
theorem go_lreturn {k : Kt} {own nm : String} {cc : ByteArray} {fr lo : Nat} {pc : Nat} {L st : List Value} {μ : Mm} {v : Int64} (K : Ctx k own nm cc (some .long) fr lo) (hd : decode cc pc = .ok (.lreturn, 1)) (hR : Rt k (some (.long v)) μ) : Go k pc L [.long v] μ := by
  obtain ⟨p, l, e, R, s, m, args, below, meth, c, Q, Z, nx0, sn0, NX, SN⟩ := k
  obtain ⟨hx, hb, hown, hts, hKK, hKS, hlk, hnm, hrt, hR1, hR2, hR3, hR4⟩ := K
  obtain ⟨r1, r2, rfl⟩ := hR
  refine ⟨⟨r1, r2⟩, fun H locs ls hH hF h0 h1 hl => ?_⟩
  refine W.widen (k := NX - nx0) (n := SN - sn0) (by omega) (by omega) ?_
  exact W.lret hx hb hrt (fun t ht hW => ⟨rfl, by rw [ht]; exact hH, by rw [ht]; exact hF.1, fun q hq => by rw [ht]; exact hF.2.1 q hq⟩) hF.2.2.1 hd hlk
theorem go_areturn {k : Kt} {own nm : String} {cc : ByteArray} {fr lo : Nat} {pc : Nat} {L st : List Value} {μ : Mm} {v : Nat} {C : String} (K : Ctx k own nm cc (some (.object C)) fr lo) (hd : decode cc pc = .ok (.areturn, 1)) (hR : Rt k (some (.ref v)) μ) : Go k pc L [.ref v] μ := by
  obtain ⟨p, l, e, R, s, m, args, below, meth, c, Q, Z, nx0, sn0, NX, SN⟩ := k
  obtain ⟨hx, hb, hown, hts, hKK, hKS, hlk, hnm, hrt, hR1, hR2, hR3, hR4⟩ := K
  obtain ⟨r1, r2, rfl⟩ := hR
  refine ⟨⟨r1, r2⟩, fun H locs ls hH hF h0 h1 hl => ?_⟩
  refine W.widen (k := NX - nx0) (n := SN - sn0) (by omega) (by omega) ?_
  exact W.aret hx hb hrt (Or.inl ⟨C, rfl⟩) (Or.inr ⟨v, rfl⟩) (fun t ht hW => ⟨rfl, by rw [ht]; exact hH, by rw [ht]; exact hF.1, fun q hq => by rw [ht]; exact hF.2.1 q hq⟩) hF.2.2.1 hd hlk
theorem go_return {k : Kt} {own nm : String} {cc : ByteArray} {fr lo : Nat} {pc : Nat} {L st : List Value} {μ : Mm} (K : Ctx k own nm cc none fr lo) (hd : decode cc pc = .ok (.return_, 1)) (hR : Rt k none μ) : Go k pc L [] μ := by
  obtain ⟨p, l, e, R, s, m, args, below, meth, c, Q, Z, nx0, sn0, NX, SN⟩ := k
  obtain ⟨hx, hb, hown, hts, hKK, hKS, hlk, hnm, hrt, hR1, hR2, hR3, hR4⟩ := K
  obtain ⟨r1, r2, rfl⟩ := hR
  refine ⟨⟨r1, r2⟩, fun H locs ls hH hF h0 h1 hl => ?_⟩
  refine W.widen (k := NX - nx0) (n := SN - sn0) (by omega) (by omega) ?_
  exact W.vret hx hb hrt (fun t ht hW => ⟨rfl, by rw [ht]; exact hH, by rw [ht]; exact hF.1, fun q hq => by rw [ht]; exact hF.2.1 q hq⟩) hF.2.2.1 hd hlk
