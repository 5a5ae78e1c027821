set_option maxRecDepth 100000
/-! LAYER 1: expressions, conditions, statements as functions of locals and memory; what code does them -/
abbrev Xp : Type := List Value → Mm → Option (Value × Mm)
abbrev Bp : Type := List Value → Mm → Option (Bool × Mm)
abbrev Sp : Type := List Value → Mm → Option (Nat × Option Value × List Value × Mm)
def cI (n : Int32) : Xp := fun _ μ => some (.int n, μ)
def cJ (n : Int64) : Xp := fun _ μ => some (.long n, μ)
def cN : Xp := fun _ μ => some (.null, μ)
def sC (n : Nat) : Xp := fun _ μ => some (.ref (sa μ n), μ)
def vI (i : Nat) : Xp := fun L μ => match L[i]? with
  | some (.int x) => some (.int x, μ)
  | _ => none
def vJ (i : Nat) : Xp := fun L μ => match L[i]? with
  | some (.long x) => some (.long x, μ)
  | _ => none
def vA (i : Nat) : Xp := fun L μ => match L[i]? with
  | some (.ref x) => some (.ref x, μ)
  | _ => none
def opI (g : Int32 → Int32 → Option Int32) (a b : Xp) : Xp := fun L μ => match a L μ with
  | some (.int x, μ1) => match b L μ1 with
    | some (.int y, μ2) => match g x y with
      | some z => some (.int z, μ2)
      | none => none
    | _ => none
  | _ => none
def opJ (g : Int64 → Int64 → Option Int64) (a b : Xp) : Xp := fun L μ => match a L μ with
  | some (.long x, μ1) => match b L μ1 with
    | some (.long y, μ2) => match g x y with
      | some z => some (.long z, μ2)
      | none => none
    | _ => none
  | _ => none
def lshl (a b : Xp) : Xp := fun L μ => match a L μ with
  | some (.long x, μ1) => match b L μ1 with
    | some (.int y, μ2) => some (.long (x <<< (y.toInt64 &&& 63)), μ2)
    | _ => none
  | _ => none
def i2l (a : Xp) : Xp := fun L μ => match a L μ with
  | some (.int x, μ1) => some (.long x.toInt64, μ1)
  | _ => none
def l2i (a : Xp) : Xp := fun L μ => match a L μ with
  | some (.long x, μ1) => some (.int x.toInt32, μ1)
  | _ => none
def i2b (a : Xp) : Xp := fun L μ => match a L μ with
  | some (.int x, μ1) => some (.int x.toInt8.toInt32, μ1)
  | _ => none
def gF (c j : Nat) (a : Xp) : Xp := fun L μ => match a L μ with
  | some (.ref q, μ1) => if kd μ1 q = c + 1 then some (fd μ1 c j q, μ1) else none
  | _ => none
def aL (t : Nat) (a i : Xp) : Xp := fun L μ => match a L μ with
  | some (.ref q, μ1) => match i L μ1 with
    | some (.int x, μ2) => if kd μ2 q = 100 + t ∧ zin x (ln μ2 q) = true then some (ar μ2 t q x.toNatClampNeg, μ2) else none
    | _ => none
  | _ => none
def aN (t : Nat) (a : Xp) : Xp := fun L μ => match a L μ with
  | some (.ref q, μ1) => if kd μ1 q = 100 + t then some (.int (ln μ1 q).toInt32, μ1) else none
  | _ => none
/-- arguments, each with its category -/
def evs : List (Nat × Xp) → List Value → Mm → Option (List Value × Mm)
  | [], _, μ => some ([], μ)
  | e :: es, L, μ => match e.2 L μ with
    | some (v, μ1) => if v.category = e.1 then (match evs es L μ1 with
      | some (vs, μ2) => some (v :: vs, μ2)
      | none => none) else none
    | none => none
def icall (F : Fn) (es : List (Nat × Xp)) : Xp := fun L μ => match evs es L μ with
  | some (As, μ1) => match F As μ1 with
    | some (some v, μ2) => some (v, μ2)
    | _ => none
  | none => none
def cst (c : Nat) (a : Xp) : Xp := fun L μ => match a L μ with
  | some (.ref q, μ1) => if kd μ1 q = c + 1 then some (.ref q, μ1) else none
  | _ => none
def nw (c ns : Nat) (F : Fn) (es : List (Nat × Xp)) : Xp := fun L μ => match evs es L (newO μ c ns) with
  | some (As, μ1) => match F (.ref (nx μ) :: As) μ1 with
    | some (none, μ2) => some (.ref (nx μ), μ2)
    | _ => none
  | none => none
def nA (t : Nat) (n : Xp) : Xp := fun L μ => match n L μ with
  | some (.int x, μ1) => if 0 ≤ x ∧ x ≤ 1000000 then some (.ref (nx μ1), newA μ1 t x.toNatClampNeg) else none
  | _ => none
def aI (t : Nat) (a i v : Xp) : Xp := fun L μ => match a L μ with
  | some (.ref q, μ1) => match i L μ1 with
    | some (.int x, μ2) => match v L μ2 with
      | some (y, μ3) => if kd μ3 q = 100 + t ∧ zin x (ln μ3 q) = true then (match cvA t μ3 y with
        | some z => some (.ref q, setA μ3 t q x.toNatClampNeg z)
        | none => none) else none
      | none => none
    | _ => none
  | _ => none
def cnd (b : Bp) (x y : Xp) : Xp := fun L μ => match b L μ with
  | some (t, μ1) => if t = true then x L μ1 else y L μ1
  | none => none
def oB (b : Bp) : Xp := fun L μ => match b L μ with
  | some (t, μ1) => some (.int (if t = true then 1 else 0), μ1)
  | none => none
def bI (r : Int32 → Int32 → Bool) (a b : Xp) : Bp := fun L μ => match a L μ with
  | some (.int x, μ1) => match b L μ1 with
    | some (.int y, μ2) => some (r x y, μ2)
    | _ => none
  | _ => none
def bJ (r : Int64 → Int64 → Bool) (a b : Xp) : Bp := fun L μ => match a L μ with
  | some (.long x, μ1) => match b L μ1 with
    | some (.long y, μ2) => some (r x y, μ2)
    | _ => none
  | _ => none
def bNull (a : Xp) : Bp := fun L μ => match a L μ with
  | some (.null, μ1) => some (true, μ1)
  | some (.ref _, μ1) => some (false, μ1)
  | _ => none
def bNNull (a : Xp) : Bp := fun L μ => match a L μ with
  | some (.null, μ1) => some (false, μ1)
  | some (.ref _, μ1) => some (true, μ1)
  | _ => none
def bX (a : Xp) : Bp := fun L μ => match a L μ with
  | some (.int x, μ1) => some (decide (¬ x = 0), μ1)
  | _ => none
def bA (a b : Bp) : Bp := fun L μ => match a L μ with
  | some (t, μ1) => if t = true then b L μ1 else some (false, μ1)
  | none => none
def bO (a b : Bp) : Bp := fun L μ => match a L μ with
  | some (t, μ1) => if t = true then some (true, μ1) else b L μ1
  | none => none
def bN (a : Bp) : Bp := fun L μ => match a L μ with
  | some (t, μ1) => some (!t, μ1)
  | none => none
def sSk : Sp := fun L μ => some (0, none, L, μ)
def sNo : Sp := fun _ _ => none
def sSq (a b : Sp) : Sp := fun L μ => match a L μ with
  | some (o, v, L1, μ1) => if o = 0 then b L1 μ1 else some (o, v, L1, μ1)
  | none => none
def stI (i : Nat) (e : Xp) : Sp := fun L μ => match e L μ with
  | some (.int x, μ1) => match stl1 L i (.int x) with
    | some L' => some (0, none, L', μ1)
    | none => none
  | _ => none
def stA (i : Nat) (e : Xp) : Sp := fun L μ => match e L μ with
  | some (.ref x, μ1) => match stl1 L i (.ref x) with
    | some L' => some (0, none, L', μ1)
    | none => none
  | _ => none
def stJ (i : Nat) (e : Xp) : Sp := fun L μ => match e L μ with
  | some (.long x, μ1) => match stl2 L i (.long x) with
    | some L' => some (0, none, L', μ1)
    | none => none
  | _ => none
def inc (i : Nat) (n : Int32) : Sp := fun L μ => match L[i]? with
  | some (.int x) => match stl1 L i (.int (x + n)) with
    | some L' => some (0, none, L', μ)
    | none => none
  | _ => none
def zfi : FieldType → Value → Bool
  | .int, .int _ => true
  | .long, .long _ => true
  | .boolean, .int x => x == 0 || x == 1
  | .object _, .ref _ => true
  | .object _, .null => true
  | .array _, .ref _ => true
  | .array _, .null => true
  | _, _ => false
theorem zfi_spec {ty : FieldType} {v : Value} (h : zfi ty v = true) : narrow ty v = v ∧ fits ty v = true := by
  cases ty <;> cases v <;> first | (cases h; done) | exact ⟨rfl, rfl⟩ | skip
  rename_i x
  have h : (x == 0 || x == 1) = true := h
  simp only [Bool.or_eq_true, beq_iff_eq] at h
  rcases h with rfl | rfl
  · exact ⟨by decide, by decide⟩
  · exact ⟨by decide, by decide⟩
def pF (c j : Nat) (a v : Xp) : Sp := fun L μ => match a L μ with
  | some (.ref q, μ1) => match v L μ1 with
    | some (y, μ2) => if kd μ2 q = c + 1 ∧ zfi (zdt c j) y = true then some (0, none, L, setF μ2 c j q y) else none
    | none => none
  | _ => none
def aS (t : Nat) (a i v : Xp) : Sp := fun L μ => match a L μ with
  | some (.ref q, μ1) => match i L μ1 with
    | some (.int x, μ2) => match v L μ2 with
      | some (y, μ3) => if kd μ3 q = 100 + t ∧ zin x (ln μ3 q) = true then (match cvA t μ3 y with
        | some z => some (0, none, L, setA μ3 t q x.toNatClampNeg z)
        | none => none) else none
      | none => none
    | _ => none
  | _ => none
def fO (c j : Nat) (g : Int32 → Int32 → Int32) (a v : Xp) : Sp := fun L μ => match a L μ with
  | some (.ref q, μ1) => if kd μ1 q = c + 1 then (match fd μ1 c j q with
    | .int x => match v L μ1 with
      | some (.int y, μ2) => if kd μ2 q = c + 1 ∧ zfi (zdt c j) (.int (g x y)) = true then some (0, none, L, setF μ2 c j q (.int (g x y))) else none
      | _ => none
    | _ => none) else none
  | _ => none
def aOI (g : Int32 → Int32 → Int32) (a i v : Xp) : Sp := fun L μ => match a L μ with
  | some (.ref q, μ1) => match i L μ1 with
    | some (.int x, μ2) => if kd μ2 q = 100 + 0 ∧ zin x (ln μ2 q) = true then (match ar μ2 0 q x.toNatClampNeg with
      | .int z => match v L μ2 with
        | some (.int y, μ3) => if kd μ3 q = 100 + 0 ∧ zin x (ln μ3 q) = true then some (0, none, L, setA μ3 0 q x.toNatClampNeg (.int (g z y))) else none
        | _ => none
      | _ => none) else none
    | _ => none
  | _ => none
def aOJ (g : Int64 → Int64 → Int64) (a i v : Xp) : Sp := fun L μ => match a L μ with
  | some (.ref q, μ1) => match i L μ1 with
    | some (.int x, μ2) => if kd μ2 q = 100 + 1 ∧ zin x (ln μ2 q) = true then (match ar μ2 1 q x.toNatClampNeg with
      | .long z => match v L μ2 with
        | some (.long y, μ3) => if kd μ3 q = 100 + 1 ∧ zin x (ln μ3 q) = true then some (0, none, L, setA μ3 1 q x.toNatClampNeg (.long (g z y))) else none
        | _ => none
      | _ => none) else none
    | _ => none
  | _ => none
def exv (F : Fn) (es : List (Nat × Xp)) : Sp := fun L μ => match evs es L μ with
  | some (As, μ1) => match F As μ1 with
    | some (none, μ2) => some (0, none, L, μ2)
    | _ => none
  | none => none
def exs (e : Xp) : Sp := fun L μ => match e L μ with
  | some (v, μ1) => if v.category = 1 then some (0, none, L, μ1) else none
  | none => none
def sIf (b : Bp) (s u : Sp) : Sp := fun L μ => match b L μ with
  | some (t, μ1) => if t = true then s L μ1 else u L μ1
  | none => none
def whF (b : Bp) (s u : Sp) : Nat → Sp
  | 0 => fun _ _ => none
  | n + 1 => fun L μ => match b L μ with
    | none => none
    | some (t, μ1) => if t = true then (match s L μ1 with
      | none => none
      | some (o, v, L2, μ2) => if o = 1 then some (1, v, L2, μ2) else if o = 3 then some (0, none, L2, μ2) else if o = 0 ∨ o = 2 then (match u L2 μ2 with
        | none => none
        | some (o', _, L3, μ3) => if o' = 0 then whF b s u n L3 μ3 else none) else none) else some (0, none, L, μ1)
def zfuel : Nat := 1000000
def wh (b : Bp) (s u : Sp) : Sp := whF b s u zfuel
def sRe (ty : FieldType) (e : Xp) : Sp := fun L μ => match e L μ with
  | some (v, μ1) => if zfi ty v = true then some (1, some v, L, μ1) else none
  | none => none
def sRv : Sp := fun L μ => some (1, none, L, μ)
def sCo : Sp := fun L μ => some (2, none, L, μ)
def sBr : Sp := fun L μ => some (3, none, L, μ)
/-- a switch over lo, lo + 1 ..; what a case breaks out of, ends it -/
def swO (r : Option (Nat × Option Value × List Value × Mm)) : Option (Nat × Option Value × List Value × Mm) := match r with
  | some (o, v, L, μ) => if o = 3 then some (0, none, L, μ) else some (o, v, L, μ)
  | none => none
def sw (e : Xp) (lo : Int) (cs : List Sp) (d : Sp) : Sp := fun L μ => match e L μ with
  | some (.int x, μ1) => if x.toInt < lo then swO (d L μ1) else (match cs[(x.toInt - lo).toNat]? with
    | some s => swO (s L μ1)
    | none => swO (d L μ1))
  | _ => none
/-! what code does them -/
abbrev wt (st : List Value) : Nat := (st.map fun v => v.category).sum
def GoP (k : Kt) (N : Nat × Nat) (L st : List Value) (μ : Mm) : Prop := Go k N.1 L st μ ∧ Go k N.2 L st μ
def zxx (N : Nat × Nat) (p : Nat) : Prop := N.1 = p ∨ N.2 = p
theorem GoP.at {k : Kt} {N : Nat × Nat} {p : Nat} {L st : List Value} {μ : Mm} (h : GoP k N L st μ) (hz : zxx N p) : Go k p L st μ := by
  rcases hz with rfl | rfl
  · exact h.1
  · exact h.2
def SE (k : Kt) (w pc : Nat) (e : Xp) (N : Nat × Nat) : Prop := ∀ L st μ v μ', e L μ = some (v, μ') → wt st ≤ w → GoP k N L (v :: st) μ' → Go k pc L st μ
def SL (k : Kt) (w pc : Nat) (es : List (Nat × Xp)) (p' : Nat) : Prop := ∀ L st μ As μ', evs es L μ = some (As, μ') → wt st ≤ w → Go k p' L (As.reverse ++ st) μ' → Go k pc L st μ
def SB (k : Kt) (w pc : Nat) (b : Bp) (T F : Nat × Nat) : Prop := ∀ L st μ t μ', b L μ = some (t, μ') → wt st ≤ w → (t = true → GoP k T L st μ') → (t = false → GoP k F L st μ') → Go k pc L st μ
def SS (k : Kt) (pc : Nat) (s : Sp) (N C B : Nat × Nat) : Prop := ∀ L μ o v L' μ', s L μ = some (o, v, L', μ') → (o = 0 → GoP k N L' [] μ') → (o = 1 → Rt k v μ') → (o = 2 → GoP k C L' [] μ') → (o = 3 → GoP k B L' [] μ') → Go k pc L [] μ
theorem wt_1 {v : Value} {st : List Value} {w : Nat} (hv : v.category = 1) (h : wt st ≤ w) : wt (v :: st) ≤ w + 1 := by
  show (v.category + wt st) ≤ w + 1
  omega
theorem wt_2 {v : Value} {st : List Value} {w : Nat} (hv : v.category = 2) (h : wt st ≤ w) : wt (v :: st) ≤ w + 2 := by
  show (v.category + wt st) ≤ w + 2
  omega
theorem x_iconst {k : Kt} {own nm : String} {cc : ByteArray} {ret : Option FieldType} {fr lo : Nat} {n : Int} {v : Int32} {w pc : Nat} {N : Nat × Nat} (K : Ctx k own nm cc ret fr lo) (hd : decode cc pc = .ok (.iconst n, 1)) (hv : Int32.ofInt n = v) (hN : zxx N (pc + 1)) : SE k w pc (cI v) N := by
  intro L st μ v9 μ' h hw kk
  cases h
  exact go_iconst K hd hv (kk.at hN)
theorem x_bipush {k : Kt} {own nm : String} {cc : ByteArray} {ret : Option FieldType} {fr lo : Nat} {n : Int} {v : Int32} {w pc : Nat} {N : Nat × Nat} (K : Ctx k own nm cc ret fr lo) (hd : decode cc pc = .ok (.bipush n, 2)) (hv : (Int8.ofInt n).toInt32 = v) (hN : zxx N (pc + 2)) : SE k w pc (cI v) N := by
  intro L st μ v9 μ' h hw kk
  cases h
  exact go_bipush K hd hv (kk.at hN)
theorem x_sipush {k : Kt} {own nm : String} {cc : ByteArray} {ret : Option FieldType} {fr lo : Nat} {n : Int} {v : Int32} {w pc : Nat} {N : Nat × Nat} (K : Ctx k own nm cc ret fr lo) (hd : decode cc pc = .ok (.sipush n, 3)) (hv : (Int16.ofInt n).toInt32 = v) (hN : zxx N (pc + 3)) : SE k w pc (cI v) N := by
  intro L st μ v9 μ' h hw kk
  cases h
  exact go_sipush K hd hv (kk.at hN)
theorem x_lconst {k : Kt} {own nm : String} {cc : ByteArray} {ret : Option FieldType} {fr lo : Nat} {n : Fin 2} {v : Int64} {w pc : Nat} {N : Nat × Nat} (K : Ctx k own nm cc ret fr lo) (hd : decode cc pc = .ok (.lconst n, 1)) (hv : Int64.ofNat (n : Nat) = v) (hN : zxx N (pc + 1)) : SE k w pc (cJ v) N := by
  intro L st μ v9 μ' h hw kk
  cases h
  exact go_lconst K hd hv (kk.at hN)
theorem x_ldc {k : Kt} {own nm : String} {cc : ByteArray} {ret : Option FieldType} {fr lo : Nat} {n : Nat} {v : Int32} {w pc : Nat} {N : Nat × Nat} (K : Ctx k own nm cc ret fr lo) (hd : decode cc pc = .ok (.ldc n, 2)) (hv : Cond.constant own n v ∈ lw_all) (hN : zxx N (pc + 2)) : SE k w pc (cI v) N := by
  intro L st μ v9 μ' h hw kk
  cases h
  exact go_ldc (ln9 := 0) K hd hv (kk.at hN)
theorem x_ldc_w {k : Kt} {own nm : String} {cc : ByteArray} {ret : Option FieldType} {fr lo : Nat} {n : Nat} {v : Int32} {w pc : Nat} {N : Nat × Nat} (K : Ctx k own nm cc ret fr lo) (hd : decode cc pc = .ok (.ldc_w n, 3)) (hv : Cond.constant own n v ∈ lw_all) (hN : zxx N (pc + 3)) : SE k w pc (cI v) N := by
  intro L st μ v9 μ' h hw kk
  cases h
  exact go_ldcw (ln9 := 0) K hd hv (kk.at hN)
theorem x_ldc2 {k : Kt} {own nm : String} {cc : ByteArray} {ret : Option FieldType} {fr lo : Nat} {n : Nat} {v : Int64} {w pc : Nat} {N : Nat × Nat} (K : Ctx k own nm cc ret fr lo) (hd : decode cc pc = .ok (.ldc2_w n, 3)) (hv : Cond.constantLong own n v ∈ lw_all) (hN : zxx N (pc + 3)) : SE k w pc (cJ v) N := by
  intro L st μ v9 μ' h hw kk
  cases h
  exact go_ldc2 K hd hv (kk.at hN)
theorem x_null {k : Kt} {own nm : String} {cc : ByteArray} {ret : Option FieldType} {fr lo : Nat} {w pc : Nat} {N : Nat × Nat} (K : Ctx k own nm cc ret fr lo) (hd : decode cc pc = .ok (.aconst_null, 1)) (hN : zxx N (pc + 1)) : SE k w pc cN N := by
  intro L st μ v9 μ' h hw kk
  cases h
  exact go_null K hd (kk.at hN)
theorem x_sC {k : Kt} {own nm : String} {cc : ByteArray} {ret : Option FieldType} {fr lo : Nat} {w pc idx n : Nat} {N : Nat × Nat} (K : Ctx k own nm cc ret fr lo) (hR : StRow own idx n) (hd : decode cc pc = .ok (.ldc idx, 2)) (hN : zxx N (pc + 2)) : SE k w pc (sC n) N := by
  intro L st μ v9 μ' h hw kk
  cases h
  exact hR K hd (kk.at hN)
theorem x_iload {k : Kt} {own nm : String} {cc : ByteArray} {ret : Option FieldType} {fr lo : Nat} {w pc i : Nat} {N : Nat × Nat} (K : Ctx k own nm cc ret fr lo) (hd : decode cc pc = .ok (.iload i, 2)) (hN : zxx N (pc + 2)) : SE k w pc (vI i) N := by
  intro L st μ v9 μ' h hw kk
  unfold vI at h
  split at h
  · rename_i x hx
    cases h
    exact go_iload K hd hx (kk.at hN)
  · cases h
theorem x_iload_n {k : Kt} {own nm : String} {cc : ByteArray} {ret : Option FieldType} {fr lo : Nat} {w pc i : Nat} {q : Fin 4} {N : Nat × Nat} (K : Ctx k own nm cc ret fr lo) (hd : decode cc pc = .ok (.iload_n q, 1)) (hq : (q : Nat) = i) (hN : zxx N (pc + 1)) : SE k w pc (vI i) N := by
  intro L st μ v9 μ' h hw kk
  unfold vI at h
  split at h
  · rename_i x hx
    cases h
    exact go_iload_n K hd hq hx (kk.at hN)
  · cases h
theorem x_lload {k : Kt} {own nm : String} {cc : ByteArray} {ret : Option FieldType} {fr lo : Nat} {w pc i : Nat} {N : Nat × Nat} (K : Ctx k own nm cc ret fr lo) (hd : decode cc pc = .ok (.lload i, 2)) (hN : zxx N (pc + 2)) : SE k w pc (vJ i) N := by
  intro L st μ v9 μ' h hw kk
  unfold vJ at h
  split at h
  · rename_i x hx
    cases h
    exact go_lload K hd hx (kk.at hN)
  · cases h
theorem x_lload_n {k : Kt} {own nm : String} {cc : ByteArray} {ret : Option FieldType} {fr lo : Nat} {w pc i : Nat} {q : Fin 4} {N : Nat × Nat} (K : Ctx k own nm cc ret fr lo) (hd : decode cc pc = .ok (.lload_n q, 1)) (hq : (q : Nat) = i) (hN : zxx N (pc + 1)) : SE k w pc (vJ i) N := by
  intro L st μ v9 μ' h hw kk
  unfold vJ at h
  split at h
  · rename_i x hx
    cases h
    exact go_lload_n K hd hq hx (kk.at hN)
  · cases h
theorem x_aload {k : Kt} {own nm : String} {cc : ByteArray} {ret : Option FieldType} {fr lo : Nat} {w pc i : Nat} {N : Nat × Nat} (K : Ctx k own nm cc ret fr lo) (hd : decode cc pc = .ok (.aload i, 2)) (hN : zxx N (pc + 2)) : SE k w pc (vA i) N := by
  intro L st μ v9 μ' h hw kk
  unfold vA at h
  split at h
  · rename_i x hx
    cases h
    exact go_aload K hd hx (kk.at hN)
  · cases h
theorem x_aload_n {k : Kt} {own nm : String} {cc : ByteArray} {ret : Option FieldType} {fr lo : Nat} {w pc i : Nat} {q : Fin 4} {N : Nat × Nat} (K : Ctx k own nm cc ret fr lo) (hd : decode cc pc = .ok (.aload_n q, 1)) (hq : (q : Nat) = i) (hN : zxx N (pc + 1)) : SE k w pc (vA i) N := by
  intro L st μ v9 μ' h hw kk
  unfold vA at h
  split at h
  · rename_i x hx
    cases h
    exact go_aload_n K hd hq hx (kk.at hN)
  · cases h
def iadd : Xp → Xp → Xp := opI (fun x y => some (x + y))
theorem x_iadd {k : Kt} {own nm : String} {cc : ByteArray} {ret : Option FieldType} {fr lo : Nat} {w pc p1 p2 : Nat} {N : Nat × Nat} {a b : Xp} (K : Ctx k own nm cc ret fr lo) (ha : SE k w pc a (p1, p1)) (hb : SE k (w + 1) p1 b (p2, p2)) (hd : decode cc p2 = .ok (.iadd, 1)) (hN : zxx N (p2 + 1)) : SE k w pc (iadd a b) N := by
  intro L st μ v9 μ' h hw kk
  unfold iadd opI at h
  split at h
  case h_2 => cases h
  rename_i x μ1 h1
  split at h
  case h_2 => cases h
  rename_i y μ2 h2
  split at h
  case h_2 => cases h
  rename_i z hz
  cases h
  cases hz
  have g3 := go_iadd K hd (kk.at hN)
  have g2 := hb _ _ _ _ _ h2 (wt_1 rfl hw) ⟨g3, g3⟩
  exact ha _ _ _ _ _ h1 hw ⟨g2, g2⟩
def isub : Xp → Xp → Xp := opI (fun x y => some (x - y))
theorem x_isub {k : Kt} {own nm : String} {cc : ByteArray} {ret : Option FieldType} {fr lo : Nat} {w pc p1 p2 : Nat} {N : Nat × Nat} {a b : Xp} (K : Ctx k own nm cc ret fr lo) (ha : SE k w pc a (p1, p1)) (hb : SE k (w + 1) p1 b (p2, p2)) (hd : decode cc p2 = .ok (.isub, 1)) (hN : zxx N (p2 + 1)) : SE k w pc (isub a b) N := by
  intro L st μ v9 μ' h hw kk
  unfold isub opI at h
  split at h
  case h_2 => cases h
  rename_i x μ1 h1
  split at h
  case h_2 => cases h
  rename_i y μ2 h2
  split at h
  case h_2 => cases h
  rename_i z hz
  cases h
  cases hz
  have g3 := go_isub K hd (kk.at hN)
  have g2 := hb _ _ _ _ _ h2 (wt_1 rfl hw) ⟨g3, g3⟩
  exact ha _ _ _ _ _ h1 hw ⟨g2, g2⟩
def imul : Xp → Xp → Xp := opI (fun x y => some (x * y))
theorem x_imul {k : Kt} {own nm : String} {cc : ByteArray} {ret : Option FieldType} {fr lo : Nat} {w pc p1 p2 : Nat} {N : Nat × Nat} {a b : Xp} (K : Ctx k own nm cc ret fr lo) (ha : SE k w pc a (p1, p1)) (hb : SE k (w + 1) p1 b (p2, p2)) (hd : decode cc p2 = .ok (.imul, 1)) (hN : zxx N (p2 + 1)) : SE k w pc (imul a b) N := by
  intro L st μ v9 μ' h hw kk
  unfold imul opI at h
  split at h
  case h_2 => cases h
  rename_i x μ1 h1
  split at h
  case h_2 => cases h
  rename_i y μ2 h2
  split at h
  case h_2 => cases h
  rename_i z hz
  cases h
  cases hz
  have g3 := go_imul K hd (kk.at hN)
  have g2 := hb _ _ _ _ _ h2 (wt_1 rfl hw) ⟨g3, g3⟩
  exact ha _ _ _ _ _ h1 hw ⟨g2, g2⟩
def iand : Xp → Xp → Xp := opI (fun x y => some (x &&& y))
theorem x_iand {k : Kt} {own nm : String} {cc : ByteArray} {ret : Option FieldType} {fr lo : Nat} {w pc p1 p2 : Nat} {N : Nat × Nat} {a b : Xp} (K : Ctx k own nm cc ret fr lo) (ha : SE k w pc a (p1, p1)) (hb : SE k (w + 1) p1 b (p2, p2)) (hd : decode cc p2 = .ok (.iand, 1)) (hN : zxx N (p2 + 1)) : SE k w pc (iand a b) N := by
  intro L st μ v9 μ' h hw kk
  unfold iand opI at h
  split at h
  case h_2 => cases h
  rename_i x μ1 h1
  split at h
  case h_2 => cases h
  rename_i y μ2 h2
  split at h
  case h_2 => cases h
  rename_i z hz
  cases h
  cases hz
  have g3 := go_iand K hd (kk.at hN)
  have g2 := hb _ _ _ _ _ h2 (wt_1 rfl hw) ⟨g3, g3⟩
  exact ha _ _ _ _ _ h1 hw ⟨g2, g2⟩
def ior : Xp → Xp → Xp := opI (fun x y => some (x ||| y))
theorem x_ior {k : Kt} {own nm : String} {cc : ByteArray} {ret : Option FieldType} {fr lo : Nat} {w pc p1 p2 : Nat} {N : Nat × Nat} {a b : Xp} (K : Ctx k own nm cc ret fr lo) (ha : SE k w pc a (p1, p1)) (hb : SE k (w + 1) p1 b (p2, p2)) (hd : decode cc p2 = .ok (.ior, 1)) (hN : zxx N (p2 + 1)) : SE k w pc (ior a b) N := by
  intro L st μ v9 μ' h hw kk
  unfold ior opI at h
  split at h
  case h_2 => cases h
  rename_i x μ1 h1
  split at h
  case h_2 => cases h
  rename_i y μ2 h2
  split at h
  case h_2 => cases h
  rename_i z hz
  cases h
  cases hz
  have g3 := go_ior K hd (kk.at hN)
  have g2 := hb _ _ _ _ _ h2 (wt_1 rfl hw) ⟨g3, g3⟩
  exact ha _ _ _ _ _ h1 hw ⟨g2, g2⟩
def ixor : Xp → Xp → Xp := opI (fun x y => some (x ^^^ y))
theorem x_ixor {k : Kt} {own nm : String} {cc : ByteArray} {ret : Option FieldType} {fr lo : Nat} {w pc p1 p2 : Nat} {N : Nat × Nat} {a b : Xp} (K : Ctx k own nm cc ret fr lo) (ha : SE k w pc a (p1, p1)) (hb : SE k (w + 1) p1 b (p2, p2)) (hd : decode cc p2 = .ok (.ixor, 1)) (hN : zxx N (p2 + 1)) : SE k w pc (ixor a b) N := by
  intro L st μ v9 μ' h hw kk
  unfold ixor opI at h
  split at h
  case h_2 => cases h
  rename_i x μ1 h1
  split at h
  case h_2 => cases h
  rename_i y μ2 h2
  split at h
  case h_2 => cases h
  rename_i z hz
  cases h
  cases hz
  have g3 := go_ixor K hd (kk.at hN)
  have g2 := hb _ _ _ _ _ h2 (wt_1 rfl hw) ⟨g3, g3⟩
  exact ha _ _ _ _ _ h1 hw ⟨g2, g2⟩
def ishl : Xp → Xp → Xp := opI (fun x y => some (x <<< (y &&& 31)))
theorem x_ishl {k : Kt} {own nm : String} {cc : ByteArray} {ret : Option FieldType} {fr lo : Nat} {w pc p1 p2 : Nat} {N : Nat × Nat} {a b : Xp} (K : Ctx k own nm cc ret fr lo) (ha : SE k w pc a (p1, p1)) (hb : SE k (w + 1) p1 b (p2, p2)) (hd : decode cc p2 = .ok (.ishl, 1)) (hN : zxx N (p2 + 1)) : SE k w pc (ishl a b) N := by
  intro L st μ v9 μ' h hw kk
  unfold ishl opI at h
  split at h
  case h_2 => cases h
  rename_i x μ1 h1
  split at h
  case h_2 => cases h
  rename_i y μ2 h2
  split at h
  case h_2 => cases h
  rename_i z hz
  cases h
  cases hz
  have g3 := go_ishl K hd (kk.at hN)
  have g2 := hb _ _ _ _ _ h2 (wt_1 rfl hw) ⟨g3, g3⟩
  exact ha _ _ _ _ _ h1 hw ⟨g2, g2⟩
def ishr : Xp → Xp → Xp := opI (fun x y => some (x >>> (y &&& 31)))
theorem x_ishr {k : Kt} {own nm : String} {cc : ByteArray} {ret : Option FieldType} {fr lo : Nat} {w pc p1 p2 : Nat} {N : Nat × Nat} {a b : Xp} (K : Ctx k own nm cc ret fr lo) (ha : SE k w pc a (p1, p1)) (hb : SE k (w + 1) p1 b (p2, p2)) (hd : decode cc p2 = .ok (.ishr, 1)) (hN : zxx N (p2 + 1)) : SE k w pc (ishr a b) N := by
  intro L st μ v9 μ' h hw kk
  unfold ishr opI at h
  split at h
  case h_2 => cases h
  rename_i x μ1 h1
  split at h
  case h_2 => cases h
  rename_i y μ2 h2
  split at h
  case h_2 => cases h
  rename_i z hz
  cases h
  cases hz
  have g3 := go_ishr K hd (kk.at hN)
  have g2 := hb _ _ _ _ _ h2 (wt_1 rfl hw) ⟨g3, g3⟩
  exact ha _ _ _ _ _ h1 hw ⟨g2, g2⟩
def iushr : Xp → Xp → Xp := opI (fun x y => some (x.toUInt32 >>> (y.toUInt32 &&& Int32.toUInt32 31)).toInt32)
theorem x_iushr {k : Kt} {own nm : String} {cc : ByteArray} {ret : Option FieldType} {fr lo : Nat} {w pc p1 p2 : Nat} {N : Nat × Nat} {a b : Xp} (K : Ctx k own nm cc ret fr lo) (ha : SE k w pc a (p1, p1)) (hb : SE k (w + 1) p1 b (p2, p2)) (hd : decode cc p2 = .ok (.iushr, 1)) (hN : zxx N (p2 + 1)) : SE k w pc (iushr a b) N := by
  intro L st μ v9 μ' h hw kk
  unfold iushr opI at h
  split at h
  case h_2 => cases h
  rename_i x μ1 h1
  split at h
  case h_2 => cases h
  rename_i y μ2 h2
  split at h
  case h_2 => cases h
  rename_i z hz
  cases h
  cases hz
  have g3 := go_iushr K hd (kk.at hN)
  have g2 := hb _ _ _ _ _ h2 (wt_1 rfl hw) ⟨g3, g3⟩
  exact ha _ _ _ _ _ h1 hw ⟨g2, g2⟩
def idiv : Xp → Xp → Xp := opI (fun x y => if y = 0 then none else some (x / y))
theorem x_idiv {k : Kt} {own nm : String} {cc : ByteArray} {ret : Option FieldType} {fr lo : Nat} {w pc p1 p2 : Nat} {N : Nat × Nat} {a b : Xp} (K : Ctx k own nm cc ret fr lo) (ha : SE k w pc a (p1, p1)) (hb : SE k (w + 1) p1 b (p2, p2)) (hd : decode cc p2 = .ok (.idiv, 1)) (hN : zxx N (p2 + 1)) : SE k w pc (idiv a b) N := by
  intro L st μ v9 μ' h hw kk
  unfold idiv opI at h
  split at h
  case h_2 => cases h
  rename_i x μ1 h1
  split at h
  case h_2 => cases h
  rename_i y μ2 h2
  split at h
  case h_2 => cases h
  rename_i z hz
  cases h
  dsimp only at hz
  split at hz
  case isTrue => cases hz
  rename_i hne
  cases hz
  have g3 := go_idiv K hd hne (kk.at hN)
  have g2 := hb _ _ _ _ _ h2 (wt_1 rfl hw) ⟨g3, g3⟩
  exact ha _ _ _ _ _ h1 hw ⟨g2, g2⟩
def irem : Xp → Xp → Xp := opI (fun x y => if y = 0 then none else some (x - x / y * y))
theorem x_irem {k : Kt} {own nm : String} {cc : ByteArray} {ret : Option FieldType} {fr lo : Nat} {w pc p1 p2 : Nat} {N : Nat × Nat} {a b : Xp} (K : Ctx k own nm cc ret fr lo) (ha : SE k w pc a (p1, p1)) (hb : SE k (w + 1) p1 b (p2, p2)) (hd : decode cc p2 = .ok (.irem, 1)) (hN : zxx N (p2 + 1)) : SE k w pc (irem a b) N := by
  intro L st μ v9 μ' h hw kk
  unfold irem opI at h
  split at h
  case h_2 => cases h
  rename_i x μ1 h1
  split at h
  case h_2 => cases h
  rename_i y μ2 h2
  split at h
  case h_2 => cases h
  rename_i z hz
  cases h
  dsimp only at hz
  split at hz
  case isTrue => cases hz
  rename_i hne
  cases hz
  have g3 := go_irem K hd hne (kk.at hN)
  have g2 := hb _ _ _ _ _ h2 (wt_1 rfl hw) ⟨g3, g3⟩
  exact ha _ _ _ _ _ h1 hw ⟨g2, g2⟩
def ladd : Xp → Xp → Xp := opJ (fun x y => some (x + y))
theorem x_ladd {k : Kt} {own nm : String} {cc : ByteArray} {ret : Option FieldType} {fr lo : Nat} {w pc p1 p2 : Nat} {N : Nat × Nat} {a b : Xp} (K : Ctx k own nm cc ret fr lo) (ha : SE k w pc a (p1, p1)) (hb : SE k (w + 2) p1 b (p2, p2)) (hd : decode cc p2 = .ok (.ladd, 1)) (hN : zxx N (p2 + 1)) : SE k w pc (ladd a b) N := by
  intro L st μ v9 μ' h hw kk
  unfold ladd opJ at h
  split at h
  case h_2 => cases h
  rename_i x μ1 h1
  split at h
  case h_2 => cases h
  rename_i y μ2 h2
  split at h
  case h_2 => cases h
  rename_i z hz
  cases h
  cases hz
  have g3 := go_ladd K hd (kk.at hN)
  have g2 := hb _ _ _ _ _ h2 (wt_2 rfl hw) ⟨g3, g3⟩
  exact ha _ _ _ _ _ h1 hw ⟨g2, g2⟩
def lsub : Xp → Xp → Xp := opJ (fun x y => some (x - y))
theorem x_lsub {k : Kt} {own nm : String} {cc : ByteArray} {ret : Option FieldType} {fr lo : Nat} {w pc p1 p2 : Nat} {N : Nat × Nat} {a b : Xp} (K : Ctx k own nm cc ret fr lo) (ha : SE k w pc a (p1, p1)) (hb : SE k (w + 2) p1 b (p2, p2)) (hd : decode cc p2 = .ok (.lsub, 1)) (hN : zxx N (p2 + 1)) : SE k w pc (lsub a b) N := by
  intro L st μ v9 μ' h hw kk
  unfold lsub opJ at h
  split at h
  case h_2 => cases h
  rename_i x μ1 h1
  split at h
  case h_2 => cases h
  rename_i y μ2 h2
  split at h
  case h_2 => cases h
  rename_i z hz
  cases h
  cases hz
  have g3 := go_lsub K hd (kk.at hN)
  have g2 := hb _ _ _ _ _ h2 (wt_2 rfl hw) ⟨g3, g3⟩
  exact ha _ _ _ _ _ h1 hw ⟨g2, g2⟩
def lmul : Xp → Xp → Xp := opJ (fun x y => some (x * y))
theorem x_lmul {k : Kt} {own nm : String} {cc : ByteArray} {ret : Option FieldType} {fr lo : Nat} {w pc p1 p2 : Nat} {N : Nat × Nat} {a b : Xp} (K : Ctx k own nm cc ret fr lo) (ha : SE k w pc a (p1, p1)) (hb : SE k (w + 2) p1 b (p2, p2)) (hd : decode cc p2 = .ok (.lmul, 1)) (hN : zxx N (p2 + 1)) : SE k w pc (lmul a b) N := by
  intro L st μ v9 μ' h hw kk
  unfold lmul opJ at h
  split at h
  case h_2 => cases h
  rename_i x μ1 h1
  split at h
  case h_2 => cases h
  rename_i y μ2 h2
  split at h
  case h_2 => cases h
  rename_i z hz
  cases h
  cases hz
  have g3 := go_lmul K hd (kk.at hN)
  have g2 := hb _ _ _ _ _ h2 (wt_2 rfl hw) ⟨g3, g3⟩
  exact ha _ _ _ _ _ h1 hw ⟨g2, g2⟩
def land : Xp → Xp → Xp := opJ (fun x y => some (x &&& y))
theorem x_land {k : Kt} {own nm : String} {cc : ByteArray} {ret : Option FieldType} {fr lo : Nat} {w pc p1 p2 : Nat} {N : Nat × Nat} {a b : Xp} (K : Ctx k own nm cc ret fr lo) (ha : SE k w pc a (p1, p1)) (hb : SE k (w + 2) p1 b (p2, p2)) (hd : decode cc p2 = .ok (.land, 1)) (hN : zxx N (p2 + 1)) : SE k w pc (land a b) N := by
  intro L st μ v9 μ' h hw kk
  unfold land opJ at h
  split at h
  case h_2 => cases h
  rename_i x μ1 h1
  split at h
  case h_2 => cases h
  rename_i y μ2 h2
  split at h
  case h_2 => cases h
  rename_i z hz
  cases h
  cases hz
  have g3 := go_land K hd (kk.at hN)
  have g2 := hb _ _ _ _ _ h2 (wt_2 rfl hw) ⟨g3, g3⟩
  exact ha _ _ _ _ _ h1 hw ⟨g2, g2⟩
def lor : Xp → Xp → Xp := opJ (fun x y => some (x ||| y))
theorem x_lor {k : Kt} {own nm : String} {cc : ByteArray} {ret : Option FieldType} {fr lo : Nat} {w pc p1 p2 : Nat} {N : Nat × Nat} {a b : Xp} (K : Ctx k own nm cc ret fr lo) (ha : SE k w pc a (p1, p1)) (hb : SE k (w + 2) p1 b (p2, p2)) (hd : decode cc p2 = .ok (.lor, 1)) (hN : zxx N (p2 + 1)) : SE k w pc (lor a b) N := by
  intro L st μ v9 μ' h hw kk
  unfold lor opJ at h
  split at h
  case h_2 => cases h
  rename_i x μ1 h1
  split at h
  case h_2 => cases h
  rename_i y μ2 h2
  split at h
  case h_2 => cases h
  rename_i z hz
  cases h
  cases hz
  have g3 := go_lor K hd (kk.at hN)
  have g2 := hb _ _ _ _ _ h2 (wt_2 rfl hw) ⟨g3, g3⟩
  exact ha _ _ _ _ _ h1 hw ⟨g2, g2⟩
def ldiv : Xp → Xp → Xp := opJ (fun x y => if y = 0 then none else some (x / y))
theorem x_ldiv {k : Kt} {own nm : String} {cc : ByteArray} {ret : Option FieldType} {fr lo : Nat} {w pc p1 p2 : Nat} {N : Nat × Nat} {a b : Xp} (K : Ctx k own nm cc ret fr lo) (ha : SE k w pc a (p1, p1)) (hb : SE k (w + 2) p1 b (p2, p2)) (hd : decode cc p2 = .ok (.ldiv, 1)) (hN : zxx N (p2 + 1)) : SE k w pc (ldiv a b) N := by
  intro L st μ v9 μ' h hw kk
  unfold ldiv opJ at h
  split at h
  case h_2 => cases h
  rename_i x μ1 h1
  split at h
  case h_2 => cases h
  rename_i y μ2 h2
  split at h
  case h_2 => cases h
  rename_i z hz
  cases h
  dsimp only at hz
  split at hz
  case isTrue => cases hz
  rename_i hne
  cases hz
  have g3 := go_ldiv K hd hne (kk.at hN)
  have g2 := hb _ _ _ _ _ h2 (wt_2 rfl hw) ⟨g3, g3⟩
  exact ha _ _ _ _ _ h1 hw ⟨g2, g2⟩
def lrem : Xp → Xp → Xp := opJ (fun x y => if y = 0 then none else some (x - x / y * y))
theorem x_lrem {k : Kt} {own nm : String} {cc : ByteArray} {ret : Option FieldType} {fr lo : Nat} {w pc p1 p2 : Nat} {N : Nat × Nat} {a b : Xp} (K : Ctx k own nm cc ret fr lo) (ha : SE k w pc a (p1, p1)) (hb : SE k (w + 2) p1 b (p2, p2)) (hd : decode cc p2 = .ok (.lrem, 1)) (hN : zxx N (p2 + 1)) : SE k w pc (lrem a b) N := by
  intro L st μ v9 μ' h hw kk
  unfold lrem opJ at h
  split at h
  case h_2 => cases h
  rename_i x μ1 h1
  split at h
  case h_2 => cases h
  rename_i y μ2 h2
  split at h
  case h_2 => cases h
  rename_i z hz
  cases h
  dsimp only at hz
  split at hz
  case isTrue => cases hz
  rename_i hne
  cases hz
  have g3 := go_lrem K hd hne (kk.at hN)
  have g2 := hb _ _ _ _ _ h2 (wt_2 rfl hw) ⟨g3, g3⟩
  exact ha _ _ _ _ _ h1 hw ⟨g2, g2⟩
theorem x_lshl {k : Kt} {own nm : String} {cc : ByteArray} {ret : Option FieldType} {fr lo : Nat} {w pc p1 p2 : Nat} {N : Nat × Nat} {a b : Xp} (K : Ctx k own nm cc ret fr lo) (ha : SE k w pc a (p1, p1)) (hb : SE k (w + 2) p1 b (p2, p2)) (hd : decode cc p2 = .ok (.lshl, 1)) (hN : zxx N (p2 + 1)) : SE k w pc (lshl a b) N := by
  intro L st μ v9 μ' h hw kk
  unfold lshl at h
  split at h
  case h_2 => cases h
  rename_i x μ1 h1
  split at h
  case h_2 => cases h
  rename_i y μ2 h2
  cases h
  have g3 := go_lshl K hd (kk.at hN)
  have g2 := hb _ _ _ _ _ h2 (wt_2 rfl hw) ⟨g3, g3⟩
  exact ha _ _ _ _ _ h1 hw ⟨g2, g2⟩
theorem x_i2l {k : Kt} {own nm : String} {cc : ByteArray} {ret : Option FieldType} {fr lo : Nat} {w pc p1 : Nat} {N : Nat × Nat} {a : Xp} (K : Ctx k own nm cc ret fr lo) (ha : SE k w pc a (p1, p1)) (hd : decode cc p1 = .ok (.i2l, 1)) (hN : zxx N (p1 + 1)) : SE k w pc (i2l a) N := by
  intro L st μ v9 μ' h hw kk
  unfold i2l at h
  split at h
  case h_2 => cases h
  rename_i x μ1 h1
  cases h
  have g2 := go_i2l K hd (kk.at hN)
  exact ha _ _ _ _ _ h1 hw ⟨g2, g2⟩
theorem x_l2i {k : Kt} {own nm : String} {cc : ByteArray} {ret : Option FieldType} {fr lo : Nat} {w pc p1 : Nat} {N : Nat × Nat} {a : Xp} (K : Ctx k own nm cc ret fr lo) (ha : SE k w pc a (p1, p1)) (hd : decode cc p1 = .ok (.l2i, 1)) (hN : zxx N (p1 + 1)) : SE k w pc (l2i a) N := by
  intro L st μ v9 μ' h hw kk
  unfold l2i at h
  split at h
  case h_2 => cases h
  rename_i x μ1 h1
  cases h
  have g2 := go_l2i K hd (kk.at hN)
  exact ha _ _ _ _ _ h1 hw ⟨g2, g2⟩
theorem x_i2b {k : Kt} {own nm : String} {cc : ByteArray} {ret : Option FieldType} {fr lo : Nat} {w pc p1 : Nat} {N : Nat × Nat} {a : Xp} (K : Ctx k own nm cc ret fr lo) (ha : SE k w pc a (p1, p1)) (hd : decode cc p1 = .ok (.i2b, 1)) (hN : zxx N (p1 + 1)) : SE k w pc (i2b a) N := by
  intro L st μ v9 μ' h hw kk
  unfold i2b at h
  split at h
  case h_2 => cases h
  rename_i x μ1 h1
  cases h
  have g2 := go_i2b K hd (kk.at hN)
  exact ha _ _ _ _ _ h1 hw ⟨g2, g2⟩
theorem x_gF {k : Kt} {own nm : String} {cc : ByteArray} {ret : Option FieldType} {fr lo : Nat} {w pc p1 idx c j : Nat} {N : Nat × Nat} {a : Xp} (K : Ctx k own nm cc ret fr lo) (hR : GetRow own idx c j) (ha : SE k w pc a (p1, p1)) (hd : decode cc p1 = .ok (.getfield idx, 3)) (hN : zxx N (p1 + 3)) : SE k w pc (gF c j a) N := by
  intro L st μ v9 μ' h hw kk
  unfold gF at h
  split at h
  case h_2 => cases h
  rename_i q μ1 h1
  split at h
  case isFalse => cases h
  rename_i hk
  cases h
  have g2 := hR K hd hk (kk.at hN)
  exact ha _ _ _ _ _ h1 hw ⟨g2, g2⟩
theorem x_aL {k : Kt} {own nm : String} {cc : ByteArray} {ret : Option FieldType} {fr lo : Nat} {w pc p1 p2 t : Nat} {ins : Instr} {N : Nat × Nat} {a i : Xp} (K : Ctx k own nm cc ret fr lo) (hR : ALRow t ins) (ha : SE k w pc a (p1, p1)) (hi : SE k (w + 1) p1 i (p2, p2)) (hd : decode cc p2 = .ok (ins, 1)) (hN : zxx N (p2 + 1)) : SE k w pc (aL t a i) N := by
  intro L st μ v9 μ' h hw kk
  unfold aL at h
  split at h
  case h_2 => cases h
  rename_i q μ1 h1
  split at h
  case h_2 => cases h
  rename_i x μ2 h2
  split at h
  case isFalse => cases h
  rename_i hk
  cases h
  have g3 := hR K hd hk.1 hk.2 (kk.at hN)
  have g2 := hi _ _ _ _ _ h2 (wt_1 rfl hw) ⟨g3, g3⟩
  exact ha _ _ _ _ _ h1 hw ⟨g2, g2⟩
theorem x_aN {k : Kt} {own nm : String} {cc : ByteArray} {ret : Option FieldType} {fr lo : Nat} {w pc p1 t : Nat} {N : Nat × Nat} {a : Xp} (K : Ctx k own nm cc ret fr lo) (hR : ALNRow t) (ha : SE k w pc a (p1, p1)) (hd : decode cc p1 = .ok (.arraylength, 1)) (hN : zxx N (p1 + 1)) : SE k w pc (aN t a) N := by
  intro L st μ v9 μ' h hw kk
  unfold aN at h
  split at h
  case h_2 => cases h
  rename_i q μ1 h1
  split at h
  case isFalse => cases h
  rename_i hk
  cases h
  have g2 := hR K hd hk (kk.at hN)
  exact ha _ _ _ _ _ h1 hw ⟨g2, g2⟩
theorem xs_nil {k : Kt} {w pc : Nat} : SL k w pc [] pc := by
  intro L st μ As μ' h hw kk
  cases h
  exact kk
theorem xs_cons {k : Kt} {w pc p1 p2 c : Nat} {e : Xp} {es : List (Nat × Xp)} (he : SE k w pc e (p1, p1)) (hs : SL k (w + c) p1 es p2) : SL k w pc ((c, e) :: es) p2 := by
  intro L st μ As μ' h hw kk
  unfold evs at h
  split at h
  case h_2 => cases h
  rename_i v μ1 h1
  split at h
  case isFalse => cases h
  rename_i hc
  split at h
  case h_2 => cases h
  rename_i vs μ2 h2
  cases h
  rw [List.reverse_cons, List.append_assoc] at kk
  have g2 := hs _ _ _ _ _ h2 (by show v.category + wt st ≤ w + c; have : v.category = c := hc; omega) kk
  exact he _ _ _ _ _ h1 hw ⟨g2, g2⟩
theorem x_call {k : Kt} {own nm : String} {cc : ByteArray} {ret : Option FieldType} {fr lo : Nat} {w pc p1 : Nat} {N : Nat × Nat} {ins : Instr} {F : Fn} {es : List (Nat × Xp)} (K : Ctx k own nm cc ret fr lo) (hR : IRow own nm ins F fr lo) (hs : SL k w pc es p1) (hd : decode cc p1 = .ok (ins, 3)) (hN : zxx N (p1 + 3)) (hw8 : w ≤ 8 := by decide) : SE k w pc (icall F es) N := by
  intro L st μ v9 μ' h hw kk
  unfold icall at h
  split at h
  case h_2 => cases h
  rename_i As μ1 h1
  split at h
  case h_2 => cases h
  rename_i v μ2 h2
  cases h
  exact hs _ _ _ _ _ h1 hw (hR K hd h2 (Nat.le_trans hw hw8) (kk.at hN))
theorem x_cst {k : Kt} {own nm : String} {cc : ByteArray} {ret : Option FieldType} {fr lo : Nat} {w pc p1 idx c : Nat} {N : Nat × Nat} {a : Xp} (K : Ctx k own nm cc ret fr lo) (hR : CastRow own idx c) (ha : SE k w pc a (p1, p1)) (hd : decode cc p1 = .ok (.checkcast idx, 3)) (hN : zxx N (p1 + 3)) : SE k w pc (cst c a) N := by
  intro L st μ v9 μ' h hw kk
  unfold cst at h
  split at h
  case h_2 => cases h
  rename_i q μ1 h1
  split at h
  case isFalse => cases h
  rename_i hk
  cases h
  have g2 := hR K hd hk (kk.at hN)
  exact ha _ _ _ _ _ h1 hw ⟨g2, g2⟩
theorem x_nw {k : Kt} {own nm : String} {cc : ByteArray} {ret : Option FieldType} {fr lo : Nat} {w pc p1 p2 idx c ns : Nat} {N : Nat × Nat} {ins : Instr} {F : Fn} {es : List (Nat × Xp)} (K : Ctx k own nm cc ret fr lo) (hR : NewRow own idx c ns) (hC : IRow own nm ins F fr lo) (hd0 : decode cc pc = .ok (.new idx, 3)) (hd1 : decode cc (pc + 3) = .ok (.dup, 1)) (hs : SL k (w + 2) (pc + 3 + 1) es p2) (hd : decode cc p2 = .ok (ins, 3)) (hN : zxx N (p2 + 3)) (hw8 : w + 1 ≤ 8 := by decide) : SE k w pc (nw c ns F es) N := by
  intro L st μ v9 μ' h hw kk
  unfold nw at h
  split at h
  case h_2 => cases h
  rename_i As μ1 h1
  split at h
  case h_2 => cases h
  rename_i μ2 h2
  cases h
  refine hR K hd0 (go_dup K hd1 rfl ?_)
  refine hs _ _ _ _ _ h1 (by show 1 + (1 + wt st) ≤ w + 2; omega) ?_
  have g := hC (st := .ref (nx μ) :: st) K hd h2 (by show 1 + wt st ≤ 8; omega) (kk.at hN)
  rw [List.reverse_cons, List.append_assoc] at g
  exact g
theorem x_nA {k : Kt} {own nm : String} {cc : ByteArray} {ret : Option FieldType} {fr lo : Nat} {w pc p1 t ln9 : Nat} {N : Nat × Nat} {ins : Instr} {n : Xp} (K : Ctx k own nm cc ret fr lo) (hR : NARow t ln9 ins own) (ha : SE k w pc n (p1, p1)) (hd : decode cc p1 = .ok (ins, ln9)) (hN : zxx N (p1 + ln9)) : SE k w pc (nA t n) N := by
  intro L st μ v9 μ' h hw kk
  unfold nA at h
  split at h
  case h_2 => cases h
  rename_i x μ1 h1
  split at h
  case isFalse => cases h
  rename_i hk
  cases h
  have g2 := hR K hd hk.1 hk.2 (kk.at hN)
  exact ha _ _ _ _ _ h1 hw ⟨g2, g2⟩
theorem x_aI {k : Kt} {own nm : String} {cc : ByteArray} {ret : Option FieldType} {fr lo : Nat} {w pc p0 p1 p2 p3 t : Nat} {N : Nat × Nat} {ins : Instr} {a i v : Xp} (K : Ctx k own nm cc ret fr lo) (hR : ASRow t ins) (ha : SE k w pc a (p0, p0)) (hd0 : decode cc p0 = .ok (.dup, 1)) (hi : SE k (w + 2) (p0 + 1) i (p2, p2)) (hv : SE k (w + 3) p2 v (p3, p3)) (hd : decode cc p3 = .ok (ins, 1)) (hN : zxx N (p3 + 1)) : SE k w pc (aI t a i v) N := by
  intro L st μ v9 μ' h hw kk
  unfold aI at h
  split at h
  case h_2 => cases h
  rename_i q μ1 h1
  split at h
  case h_2 => cases h
  rename_i x μ2 h2
  split at h
  case h_2 => cases h
  rename_i y μ3 h3
  split at h
  case isFalse => cases h
  rename_i hk
  split at h
  case h_2 => cases h
  rename_i z hz
  cases h
  have g4 := hR K hd hk.1 hk.2 hz (kk.at hN)
  have g3 := hv _ _ _ _ _ h3 (by show 1 + (1 + (1 + wt st)) ≤ w + 3; omega) ⟨g4, g4⟩
  have g2 := hi _ _ _ _ _ h2 (by show 1 + (1 + wt st) ≤ w + 2; omega) ⟨g3, g3⟩
  have g1 := go_dup K hd0 rfl g2
  exact ha _ _ _ _ _ h1 hw ⟨g1, g1⟩

