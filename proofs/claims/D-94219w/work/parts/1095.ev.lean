set_option maxRecDepth 100000
/-! the combinators at locals and memory -/
theorem cI_a (n : Int32) (L : List Value) (μ : Mm) : cI n L μ = (some (.int n, μ)) := rfl
theorem cJ_a (n : Int64) (L : List Value) (μ : Mm) : cJ n L μ = (some (.long n, μ)) := rfl
theorem cN_a  (L : List Value) (μ : Mm) : cN  L μ = (some (.null, μ)) := rfl
theorem sC_a (n : Nat) (L : List Value) (μ : Mm) : sC n L μ = (some (.ref (sa μ n), μ)) := rfl
theorem vI_a (i : Nat) (L : List Value) (μ : Mm) : vI i L μ = (match L[i]? with
  | some (.int x) => some (.int x, μ)
  | _ => none) := rfl
theorem vJ_a (i : Nat) (L : List Value) (μ : Mm) : vJ i L μ = (match L[i]? with
  | some (.long x) => some (.long x, μ)
  | _ => none) := rfl
theorem vA_a (i : Nat) (L : List Value) (μ : Mm) : vA i L μ = (match L[i]? with
  | some (.ref x) => some (.ref x, μ)
  | _ => none) := rfl
theorem opI_a (g : Int32 → Int32 → Option Int32) (a b : Xp) (L : List Value) (μ : Mm) : opI g a b L μ = (match a L μ with
  | some (.int x, μ1) => match b L μ1 with
    | some (.int y, μ2) => match g x y with
      | some z => some (.int z, μ2)
      | none => none
    | _ => none
  | _ => none) := rfl
theorem opJ_a (g : Int64 → Int64 → Option Int64) (a b : Xp) (L : List Value) (μ : Mm) : opJ g a b L μ = (match a L μ with
  | some (.long x, μ1) => match b L μ1 with
    | some (.long y, μ2) => match g x y with
      | some z => some (.long z, μ2)
      | none => none
    | _ => none
  | _ => none) := rfl
theorem lshl_a (a b : Xp) (L : List Value) (μ : Mm) : lshl a b L μ = (match a L μ with
  | some (.long x, μ1) => match b L μ1 with
    | some (.int y, μ2) => some (.long (x <<< (y.toInt64 &&& 63)), μ2)
    | _ => none
  | _ => none) := rfl
theorem i2l_a (a : Xp) (L : List Value) (μ : Mm) : i2l a L μ = (match a L μ with
  | some (.int x, μ1) => some (.long x.toInt64, μ1)
  | _ => none) := rfl
theorem l2i_a (a : Xp) (L : List Value) (μ : Mm) : l2i a L μ = (match a L μ with
  | some (.long x, μ1) => some (.int x.toInt32, μ1)
  | _ => none) := rfl
theorem i2b_a (a : Xp) (L : List Value) (μ : Mm) : i2b a L μ = (match a L μ with
  | some (.int x, μ1) => some (.int x.toInt8.toInt32, μ1)
  | _ => none) := rfl
theorem gF_a (c j : Nat) (a : Xp) (L : List Value) (μ : Mm) : gF c j a L μ = (match a L μ with
  | some (.ref q, μ1) => if kd μ1 q = c + 1 then some (fd μ1 c j q, μ1) else none
  | _ => none) := rfl
theorem aL_a (t : Nat) (a i : Xp) (L : List Value) (μ : Mm) : aL t a i L μ = (match a L μ with
  | some (.ref q, μ1) => match i L μ1 with
    | some (.int x, μ2) => if kd μ2 q = 100 + t ∧ zin x (ln μ2 q) = true then some (ar μ2 t q x.toNatClampNeg, μ2) else none
    | _ => none
  | _ => none) := rfl
theorem aN_a (t : Nat) (a : Xp) (L : List Value) (μ : Mm) : aN t a L μ = (match a L μ with
  | some (.ref q, μ1) => if kd μ1 q = 100 + t then some (.int (ln μ1 q).toInt32, μ1) else none
  | _ => none) := rfl
theorem icall_a (F : Fn) (es : List (Nat × Xp)) (L : List Value) (μ : Mm) : icall F es L μ = (match evs es L μ with
  | some (As, μ1) => match F As μ1 with
    | some (some v, μ2) => some (v, μ2)
    | _ => none
  | none => none) := rfl
theorem cst_a (c : Nat) (a : Xp) (L : List Value) (μ : Mm) : cst c a L μ = (match a L μ with
  | some (.ref q, μ1) => if kd μ1 q = c + 1 then some (.ref q, μ1) else none
  | _ => none) := rfl
theorem nw_a (c ns : Nat) (F : Fn) (es : List (Nat × Xp)) (L : List Value) (μ : Mm) : nw c ns F es L μ = (match evs es L (newO μ c ns) with
  | some (As, μ1) => match F (.ref (nx μ) :: As) μ1 with
    | some (none, μ2) => some (.ref (nx μ), μ2)
    | _ => none
  | none => none) := rfl
theorem nA_a (t : Nat) (n : Xp) (L : List Value) (μ : Mm) : nA t n L μ = (match n L μ with
  | some (.int x, μ1) => if 0 ≤ x ∧ x ≤ 1000000 then some (.ref (nx μ1), newA μ1 t x.toNatClampNeg) else none
  | _ => none) := rfl
theorem cnd_a (b : Bp) (x y : Xp) (L : List Value) (μ : Mm) : cnd b x y L μ = (match b L μ with
  | some (t, μ1) => if t = true then x L μ1 else y L μ1
  | none => none) := rfl
theorem oB_a (b : Bp) (L : List Value) (μ : Mm) : oB b L μ = (match b L μ with
  | some (t, μ1) => some (.int (if t = true then 1 else 0), μ1)
  | none => none) := rfl
theorem bI_a (r : Int32 → Int32 → Bool) (a b : Xp) (L : List Value) (μ : Mm) : bI r a b L μ = (match a L μ with
  | some (.int x, μ1) => match b L μ1 with
    | some (.int y, μ2) => some (r x y, μ2)
    | _ => none
  | _ => none) := rfl
theorem bJ_a (r : Int64 → Int64 → Bool) (a b : Xp) (L : List Value) (μ : Mm) : bJ r a b L μ = (match a L μ with
  | some (.long x, μ1) => match b L μ1 with
    | some (.long y, μ2) => some (r x y, μ2)
    | _ => none
  | _ => none) := rfl
theorem bNull_a (a : Xp) (L : List Value) (μ : Mm) : bNull a L μ = (match a L μ with
  | some (.null, μ1) => some (true, μ1)
  | some (.ref _, μ1) => some (false, μ1)
  | _ => none) := rfl
theorem bNNull_a (a : Xp) (L : List Value) (μ : Mm) : bNNull a L μ = (match a L μ with
  | some (.null, μ1) => some (false, μ1)
  | some (.ref _, μ1) => some (true, μ1)
  | _ => none) := rfl
theorem bX_a (a : Xp) (L : List Value) (μ : Mm) : bX a L μ = (match a L μ with
  | some (.int x, μ1) => some (decide (¬ x = 0), μ1)
  | _ => none) := rfl
theorem bA_a (a b : Bp) (L : List Value) (μ : Mm) : bA a b L μ = (match a L μ with
  | some (t, μ1) => if t = true then b L μ1 else some (false, μ1)
  | none => none) := rfl
theorem bO_a (a b : Bp) (L : List Value) (μ : Mm) : bO a b L μ = (match a L μ with
  | some (t, μ1) => if t = true then some (true, μ1) else b L μ1
  | none => none) := rfl
theorem bN_a (a : Bp) (L : List Value) (μ : Mm) : bN a L μ = (match a L μ with
  | some (t, μ1) => some (!t, μ1)
  | none => none) := rfl
theorem sSk_a  (L : List Value) (μ : Mm) : sSk  L μ = (some (0, none, L, μ)) := rfl
theorem stI_a (i : Nat) (e : Xp) (L : List Value) (μ : Mm) : stI i e L μ = (match e L μ with
  | some (.int x, μ1) => match stl1 L i (.int x) with
    | some L' => some (0, none, L', μ1)
    | none => none
  | _ => none) := rfl
theorem stA_a (i : Nat) (e : Xp) (L : List Value) (μ : Mm) : stA i e L μ = (match e L μ with
  | some (.ref x, μ1) => match stl1 L i (.ref x) with
    | some L' => some (0, none, L', μ1)
    | none => none
  | _ => none) := rfl
theorem stJ_a (i : Nat) (e : Xp) (L : List Value) (μ : Mm) : stJ i e L μ = (match e L μ with
  | some (.long x, μ1) => match stl2 L i (.long x) with
    | some L' => some (0, none, L', μ1)
    | none => none
  | _ => none) := rfl
theorem inc_a (i : Nat) (n : Int32) (L : List Value) (μ : Mm) : inc i n L μ = (match L[i]? with
  | some (.int x) => match stl1 L i (.int (x + n)) with
    | some L' => some (0, none, L', μ)
    | none => none
  | _ => none) := rfl
theorem pF_a (c j : Nat) (a v : Xp) (L : List Value) (μ : Mm) : pF c j a v L μ = (match a L μ with
  | some (.ref q, μ1) => match v L μ1 with
    | some (y, μ2) => if kd μ2 q = c + 1 ∧ zfi (zdt c j) y = true then some (0, none, L, setF μ2 c j q y) else none
    | none => none
  | _ => none) := rfl
theorem aS_a (t : Nat) (a i v : Xp) (L : List Value) (μ : Mm) : aS t a i v L μ = (match a L μ with
  | some (.ref q, μ1) => match i L μ1 with
    | some (.int x, μ2) => match v L μ2 with
      | some (y, μ3) => if kd μ3 q = 100 + t ∧ zin x (ln μ3 q) = true then (match cvA t μ3 y with
        | some z => some (0, none, L, setA μ3 t q x.toNatClampNeg z)
        | none => none) else none
      | none => none
    | _ => none
  | _ => none) := rfl
theorem fO_a (c j : Nat) (g : Int32 → Int32 → Int32) (a v : Xp) (L : List Value) (μ : Mm) : fO c j g a v L μ = (match a L μ with
  | some (.ref q, μ1) => if kd μ1 q = c + 1 then (match fd μ1 c j q with
    | .int x => match v L μ1 with
      | some (.int y, μ2) => if kd μ2 q = c + 1 ∧ zfi (zdt c j) (.int (g x y)) = true then some (0, none, L, setF μ2 c j q (.int (g x y))) else none
      | _ => none
    | _ => none) else none
  | _ => none) := rfl
theorem aOI_a (g : Int32 → Int32 → Int32) (a i v : Xp) (L : List Value) (μ : Mm) : aOI g a i v L μ = (match a L μ with
  | some (.ref q, μ1) => match i L μ1 with
    | some (.int x, μ2) => if kd μ2 q = 100 + 0 ∧ zin x (ln μ2 q) = true then (match ar μ2 0 q x.toNatClampNeg with
      | .int z => match v L μ2 with
        | some (.int y, μ3) => if kd μ3 q = 100 + 0 ∧ zin x (ln μ3 q) = true then some (0, none, L, setA μ3 0 q x.toNatClampNeg (.int (g z y))) else none
        | _ => none
      | _ => none) else none
    | _ => none
  | _ => none) := rfl
theorem aOJ_a (g : Int64 → Int64 → Int64) (a i v : Xp) (L : List Value) (μ : Mm) : aOJ g a i v L μ = (match a L μ with
  | some (.ref q, μ1) => match i L μ1 with
    | some (.int x, μ2) => if kd μ2 q = 100 + 1 ∧ zin x (ln μ2 q) = true then (match ar μ2 1 q x.toNatClampNeg with
      | .long z => match v L μ2 with
        | some (.long y, μ3) => if kd μ3 q = 100 + 1 ∧ zin x (ln μ3 q) = true then some (0, none, L, setA μ3 1 q x.toNatClampNeg (.long (g z y))) else none
        | _ => none
      | _ => none) else none
    | _ => none
  | _ => none) := rfl
theorem exs_a (e : Xp) (L : List Value) (μ : Mm) : exs e L μ = (match e L μ with
  | some (v, μ1) => if v.category = 1 then some (0, none, L, μ1) else none
  | none => none) := rfl
theorem sRe_a (ty : FieldType) (e : Xp) (L : List Value) (μ : Mm) : sRe ty e L μ = (match e L μ with
  | some (v, μ1) => if zfi ty v = true then some (1, some v, L, μ1) else none
  | none => none) := rfl
theorem sRr_a (e : Xp) (L : List Value) (μ : Mm) : sRr e L μ = (match e L μ with
  | some (.ref v, μ1) => some (1, some (.ref v), L, μ1)
  | _ => none) := rfl
theorem sRv_a  (L : List Value) (μ : Mm) : sRv  L μ = (some (1, none, L, μ)) := rfl
theorem sCo_a  (L : List Value) (μ : Mm) : sCo  L μ = (some (2, none, L, μ)) := rfl
theorem sBr_a  (L : List Value) (μ : Mm) : sBr  L μ = (some (3, none, L, μ)) := rfl
theorem mA2_a (a b : Xp) (L : List Value) (μ : Mm) : mA2 a b L μ = (match a L μ with
  | some (.int x, μ1) => match b L μ1 with
    | some (.int y, μ2) => if 0 ≤ x ∧ x ≤ 1000 ∧ 0 ≤ y ∧ y ≤ 2000 then some (.ref (nx μ2), mk2 μ2 x.toNatClampNeg y.toNatClampNeg) else none
    | _ => none
  | _ => none) := rfl
theorem mA3_a (a b c : Xp) (L : List Value) (μ : Mm) : mA3 a b c L μ = (match a L μ with
  | some (.int x, μ1) => match b L μ1 with
    | some (.int y, μ2) => match c L μ2 with
      | some (.int z, μ3) => if 0 ≤ x ∧ x ≤ 1000 ∧ 0 ≤ y ∧ y ≤ 1000 ∧ 0 ≤ z ∧ z ≤ 2000 then some (.ref (nx μ3), mk3 μ3 x.toNatClampNeg y.toNatClampNeg z.toNatClampNeg) else none
      | _ => none
    | _ => none
  | _ => none) := rfl
theorem iadd_a (a b : Xp) (L : List Value) (μ : Mm) : iadd a b L μ = opI (fun x y => some (x + y)) a b L μ := rfl
theorem isub_a (a b : Xp) (L : List Value) (μ : Mm) : isub a b L μ = opI (fun x y => some (x - y)) a b L μ := rfl
theorem imul_a (a b : Xp) (L : List Value) (μ : Mm) : imul a b L μ = opI (fun x y => some (x * y)) a b L μ := rfl
theorem iand_a (a b : Xp) (L : List Value) (μ : Mm) : iand a b L μ = opI (fun x y => some (x &&& y)) a b L μ := rfl
theorem ior_a (a b : Xp) (L : List Value) (μ : Mm) : ior a b L μ = opI (fun x y => some (x ||| y)) a b L μ := rfl
theorem ixor_a (a b : Xp) (L : List Value) (μ : Mm) : ixor a b L μ = opI (fun x y => some (x ^^^ y)) a b L μ := rfl
theorem ishl_a (a b : Xp) (L : List Value) (μ : Mm) : ishl a b L μ = opI (fun x y => some (x <<< (y &&& 31))) a b L μ := rfl
theorem ishr_a (a b : Xp) (L : List Value) (μ : Mm) : ishr a b L μ = opI (fun x y => some (x >>> (y &&& 31))) a b L μ := rfl
theorem iushr_a (a b : Xp) (L : List Value) (μ : Mm) : iushr a b L μ = opI (fun x y => some (x.toUInt32 >>> (y.toUInt32 &&& Int32.toUInt32 31)).toInt32) a b L μ := rfl
theorem idiv_a (a b : Xp) (L : List Value) (μ : Mm) : idiv a b L μ = opI (fun x y => if y = 0 then none else some (x / y)) a b L μ := rfl
theorem irem_a (a b : Xp) (L : List Value) (μ : Mm) : irem a b L μ = opI (fun x y => if y = 0 then none else some (x - x / y * y)) a b L μ := rfl
theorem ladd_a (a b : Xp) (L : List Value) (μ : Mm) : ladd a b L μ = opJ (fun x y => some (x + y)) a b L μ := rfl
theorem lsub_a (a b : Xp) (L : List Value) (μ : Mm) : lsub a b L μ = opJ (fun x y => some (x - y)) a b L μ := rfl
theorem lmul_a (a b : Xp) (L : List Value) (μ : Mm) : lmul a b L μ = opJ (fun x y => some (x * y)) a b L μ := rfl
theorem land_a (a b : Xp) (L : List Value) (μ : Mm) : land a b L μ = opJ (fun x y => some (x &&& y)) a b L μ := rfl
theorem lor_a (a b : Xp) (L : List Value) (μ : Mm) : lor a b L μ = opJ (fun x y => some (x ||| y)) a b L μ := rfl
theorem ldiv_a (a b : Xp) (L : List Value) (μ : Mm) : ldiv a b L μ = opJ (fun x y => if y = 0 then none else some (x / y)) a b L μ := rfl
theorem lrem_a (a b : Xp) (L : List Value) (μ : Mm) : lrem a b L μ = opJ (fun x y => if y = 0 then none else some (x - x / y * y)) a b L μ := rfl
theorem evs_n (L : List Value) (μ : Mm) : evs [] L μ = some ([], μ) := rfl
theorem evs_a (n : Nat) (x : Xp) (es : List (Nat × Xp)) (L : List Value) (μ : Mm) : evs ((n, x) :: es) L μ = (match x L μ with
    | some (v, μ1) => if v.category = n then (match evs es L μ1 with
      | some (vs, μ2) => some (v :: vs, μ2)
      | none => none) else none
    | none => none) := rfl
def sK (b : Sp) (Q : Nat → Option Value → List Value → Mm → Prop) : Nat → Option Value → List Value → Mm → Prop := fun o v L μ => if o = 0 then SW b L μ Q else Q o v L μ
theorem sK_a (b : Sp) (Q : Nat → Option Value → List Value → Mm → Prop) (o : Nat) (v : Option Value) (L : List Value) (μ : Mm) : sK b Q o v L μ = if o = 0 then SW b L μ Q else Q o v L μ := rfl
theorem SW_sQ (a b : Sp) (L : List Value) (μ : Mm) (Q : Nat → Option Value → List Value → Mm → Prop) : SW (sSq a b) L μ Q = SW a L μ (sK b Q) := SW_sSq a b L μ Q
theorem zfi_b0 : zfi .boolean (.int 0) = true := rfl
theorem zfi_b1 : zfi .boolean (.int 1) = true := rfl
theorem cat_i (x : Int32) : (Value.int x).category = 1 := rfl
theorem cat_l (x : Int64) : (Value.long x).category = 2 := rfl
theorem cat_r (x : Nat) : (Value.ref x).category = 1 := rfl
theorem cat_n : Value.null.category = 1 := rfl

