set_option maxRecDepth 100000
/-! LAYER 1: conditions, statements, methods -/
theorem x_cnd {k : Kt} {own nm : String} {cc : ByteArray} {ret : Option FieldType} {fr lo : Nat} {w pc pt pf pg j : Nat} {off : Int} {N : Nat × Nat} {b : Bp} {x y : Xp} (K : Ctx k own nm cc ret fr lo) (hb : SB k w pc b (pt, pt) (pf, pf)) (hx : SE k w pt x (pg, j)) (hd : decode cc pg = .ok (.goto off, 3)) (hN : zxx N j) (hy : SE k w pf y N) (ht : (pg : Int) + off = (j : Int) := by decide) : SE k w pc (cnd b x y) N := by
  intro L st μ v9 μ' h hw kk
  unfold cnd at h
  split at h
  case h_2 => cases h
  rename_i t μ1 h1
  refine hb _ _ _ _ _ h1 hw (fun e => ?_) (fun e => ?_)
  · rw [if_pos e] at h
    have g := kk.at hN
    have g2 := hx _ _ _ _ _ h hw ⟨go_goto K hd ht g, g⟩
    exact ⟨g2, g2⟩
  · rw [if_neg (by rw [e]; decide)] at h
    have g2 := hy _ _ _ _ _ h hw kk
    exact ⟨g2, g2⟩
theorem x_oB {k : Kt} {own nm : String} {cc : ByteArray} {ret : Option FieldType} {fr lo : Nat} {w pc pt pf pg j : Nat} {off : Int} {N : Nat × Nat} {b : Bp} (K : Ctx k own nm cc ret fr lo) (hb : SB k w pc b (pt, pt) (pf, pf)) (hd1 : decode cc pt = .ok (.iconst 1, 1)) (hd : decode cc (pt + 1) = .ok (.goto off, 3)) (hj : zxx N j) (hd0 : decode cc pf = .ok (.iconst 0, 1)) (hN : zxx N (pf + 1)) (ht : ((pt + 1 : Nat) : Int) + off = (j : Int) := by decide) : SE k w pc (oB b) N := by
  intro L st μ v9 μ' h hw kk
  unfold oB at h
  split at h
  case h_2 => cases h
  rename_i t μ1 h1
  cases h
  refine hb _ _ _ _ _ h1 hw (fun e => ?_) (fun e => ?_)
  · rw [if_pos e] at kk
    have g2 := go_iconst (v := 1) K hd1 rfl (go_goto K hd ht (kk.at hj))
    exact ⟨g2, g2⟩
  · rw [if_neg (by rw [e]; decide)] at kk
    have g2 := go_iconst (v := 0) K hd0 rfl (kk.at hN)
    exact ⟨g2, g2⟩
theorem b_not {k : Kt} {w pc : Nat} {b : Bp} {T F : Nat × Nat} (hb : SB k w pc b F T) : SB k w pc (bN b) T F := by
  intro L st μ t μ' h hw kt kf
  unfold bN at h
  split at h
  case h_2 => cases h
  rename_i t1 μ1 h1
  cases h
  exact hb _ _ _ _ _ h1 hw (fun e => kf (by rw [e]; rfl)) (fun e => kt (by rw [e]; rfl))
theorem b_and {k : Kt} {w pc p1 : Nat} {a b : Bp} {T F : Nat × Nat} (ha : SB k w pc a (p1, p1) F) (hb : SB k w p1 b T F) : SB k w pc (bA a b) T F := by
  intro L st μ t μ' h hw kt kf
  unfold bA at h
  split at h
  case h_2 => cases h
  rename_i t1 μ1 h1
  cases t1 with
  | true =>
    rw [if_pos rfl] at h
    have g := hb _ _ _ _ _ h hw kt kf
    exact ha _ _ _ _ _ h1 hw (fun _ => ⟨g, g⟩) (fun e => by cases e)
  | false =>
    rw [if_neg (by decide)] at h
    cases h
    exact ha _ _ _ _ _ h1 hw (fun e => by cases e) (fun _ => kf rfl)
theorem b_or {k : Kt} {w pc p1 : Nat} {a b : Bp} {T F : Nat × Nat} (ha : SB k w pc a T (p1, p1)) (hb : SB k w p1 b T F) : SB k w pc (bO a b) T F := by
  intro L st μ t μ' h hw kt kf
  unfold bO at h
  split at h
  case h_2 => cases h
  rename_i t1 μ1 h1
  cases t1 with
  | true =>
    rw [if_pos rfl] at h
    cases h
    exact ha _ _ _ _ _ h1 hw (fun _ => kt rfl) (fun e => by cases e)
  | false =>
    rw [if_neg (by decide)] at h
    have g := hb _ _ _ _ _ h hw kt kf
    exact ha _ _ _ _ _ h1 hw (fun e => by cases e) (fun _ => ⟨g, g⟩)
def rEq (x y : Int32) : Bool := decide (x = y)
def rEqJ (x y : Int64) : Bool := decide (x = y)
def rNe (x y : Int32) : Bool := decide (¬ x = y)
def rNeJ (x y : Int64) : Bool := decide (¬ x = y)
def rLt (x y : Int32) : Bool := decide (x < y)
def rLtJ (x y : Int64) : Bool := decide (x < y)
def rGe (x y : Int32) : Bool := decide (y ≤ x)
def rGeJ (x y : Int64) : Bool := decide (y ≤ x)
def rGt (x y : Int32) : Bool := decide (y < x)
def rGtJ (x y : Int64) : Bool := decide (y < x)
def rLe (x y : Int32) : Bool := decide (x ≤ y)
def rLeJ (x y : Int64) : Bool := decide (x ≤ y)
theorem rEq_t {x y : Int32} (h : rEq x y = true) : x = y := of_decide_eq_true h
theorem rEq_f {x y : Int32} (h : rEq x y = false) : ¬ (x = y) := of_decide_eq_false h
theorem rEq_nt {x y : Int32} (h : rEq x y = true) : x = y := of_decide_eq_true h
theorem rEq_nf {x y : Int32} (h : rEq x y = false) : ¬ x = y := of_decide_eq_false h
theorem rNe_t {x y : Int32} (h : rNe x y = true) : ¬ x = y := of_decide_eq_true h
theorem rNe_f {x y : Int32} (h : rNe x y = false) : x = y := Decidable.of_not_not (of_decide_eq_false h)
theorem rNe_nt {x y : Int32} (h : rNe x y = true) : ¬ x = y := of_decide_eq_true h
theorem rNe_nf {x y : Int32} (h : rNe x y = false) : x = y := Decidable.of_not_not (of_decide_eq_false h)
theorem rLt_t {x y : Int32} (h : rLt x y = true) : x < y := of_decide_eq_true h
theorem rLt_f {x y : Int32} (h : rLt x y = false) : ¬ (x < y) := of_decide_eq_false h
theorem rLt_nt {x y : Int32} (h9 : rLt x y = true) : ¬ (y ≤ x) := by
  have h := rLt_t h9
  exact Int32.not_le.mpr h
theorem rLt_nf {x y : Int32} (h9 : rLt x y = false) : y ≤ x := by
  have h := rLt_f h9
  exact Int32.not_lt.mp h
theorem rGe_t {x y : Int32} (h : rGe x y = true) : y ≤ x := of_decide_eq_true h
theorem rGe_f {x y : Int32} (h : rGe x y = false) : ¬ (y ≤ x) := of_decide_eq_false h
theorem rGe_nt {x y : Int32} (h9 : rGe x y = true) : ¬ (x < y) := by
  have h := rGe_t h9
  exact Int32.not_lt.mpr h
theorem rGe_nf {x y : Int32} (h9 : rGe x y = false) : x < y := by
  have h := rGe_f h9
  exact Int32.not_le.mp h
theorem rGt_t {x y : Int32} (h : rGt x y = true) : y < x := of_decide_eq_true h
theorem rGt_f {x y : Int32} (h : rGt x y = false) : ¬ (y < x) := of_decide_eq_false h
theorem rGt_nt {x y : Int32} (h9 : rGt x y = true) : ¬ (x ≤ y) := by
  have h := rGt_t h9
  exact Int32.not_le.mpr h
theorem rGt_nf {x y : Int32} (h9 : rGt x y = false) : x ≤ y := by
  have h := rGt_f h9
  exact Int32.not_lt.mp h
theorem rLe_t {x y : Int32} (h : rLe x y = true) : x ≤ y := of_decide_eq_true h
theorem rLe_f {x y : Int32} (h : rLe x y = false) : ¬ (x ≤ y) := of_decide_eq_false h
theorem rLe_nt {x y : Int32} (h9 : rLe x y = true) : ¬ (y < x) := by
  have h := rLe_t h9
  exact Int32.not_lt.mpr h
theorem rLe_nf {x y : Int32} (h9 : rLe x y = false) : y < x := by
  have h := rLe_f h9
  exact Int32.not_le.mp h
theorem rEqJ_t {x y : Int64} (h : rEqJ x y = true) : x = y := of_decide_eq_true h
theorem rEqJ_f {x y : Int64} (h : rEqJ x y = false) : ¬ (x = y) := of_decide_eq_false h
theorem rEqJ_nt {x y : Int64} (h : rEqJ x y = true) : x = y := of_decide_eq_true h
theorem rEqJ_nf {x y : Int64} (h : rEqJ x y = false) : ¬ x = y := of_decide_eq_false h
theorem rNeJ_t {x y : Int64} (h : rNeJ x y = true) : ¬ x = y := of_decide_eq_true h
theorem rNeJ_f {x y : Int64} (h : rNeJ x y = false) : x = y := Decidable.of_not_not (of_decide_eq_false h)
theorem rNeJ_nt {x y : Int64} (h : rNeJ x y = true) : ¬ x = y := of_decide_eq_true h
theorem rNeJ_nf {x y : Int64} (h : rNeJ x y = false) : x = y := Decidable.of_not_not (of_decide_eq_false h)
theorem rLtJ_t {x y : Int64} (h : rLtJ x y = true) : x < y := of_decide_eq_true h
theorem rLtJ_f {x y : Int64} (h : rLtJ x y = false) : ¬ (x < y) := of_decide_eq_false h
theorem rLtJ_nt {x y : Int64} (h9 : rLtJ x y = true) : ¬ (y ≤ x) := by
  have h := rLtJ_t h9
  exact Int64.not_le.mpr h
theorem rLtJ_nf {x y : Int64} (h9 : rLtJ x y = false) : y ≤ x := by
  have h := rLtJ_f h9
  exact Int64.not_lt.mp h
theorem rGeJ_t {x y : Int64} (h : rGeJ x y = true) : y ≤ x := of_decide_eq_true h
theorem rGeJ_f {x y : Int64} (h : rGeJ x y = false) : ¬ (y ≤ x) := of_decide_eq_false h
theorem rGeJ_nt {x y : Int64} (h9 : rGeJ x y = true) : ¬ (x < y) := by
  have h := rGeJ_t h9
  exact Int64.not_lt.mpr h
theorem rGeJ_nf {x y : Int64} (h9 : rGeJ x y = false) : x < y := by
  have h := rGeJ_f h9
  exact Int64.not_le.mp h
theorem rGtJ_t {x y : Int64} (h : rGtJ x y = true) : y < x := of_decide_eq_true h
theorem rGtJ_f {x y : Int64} (h : rGtJ x y = false) : ¬ (y < x) := of_decide_eq_false h
theorem rGtJ_nt {x y : Int64} (h9 : rGtJ x y = true) : ¬ (x ≤ y) := by
  have h := rGtJ_t h9
  exact Int64.not_le.mpr h
theorem rGtJ_nf {x y : Int64} (h9 : rGtJ x y = false) : x ≤ y := by
  have h := rGtJ_f h9
  exact Int64.not_lt.mp h
theorem rLeJ_t {x y : Int64} (h : rLeJ x y = true) : x ≤ y := of_decide_eq_true h
theorem rLeJ_f {x y : Int64} (h : rLeJ x y = false) : ¬ (x ≤ y) := of_decide_eq_false h
theorem rLeJ_nt {x y : Int64} (h9 : rLeJ x y = true) : ¬ (y < x) := by
  have h := rLeJ_t h9
  exact Int64.not_lt.mpr h
theorem rLeJ_nf {x y : Int64} (h9 : rLeJ x y = false) : y < x := by
  have h := rLeJ_f h9
  exact Int64.not_le.mp h
theorem b_Ieq_n {k : Kt} {own nm : String} {cc : ByteArray} {ret : Option FieldType} {fr lo : Nat} {w pc p1 p2 tg : Nat} {off : Int} {a b : Xp} {T F : Nat × Nat} (K : Ctx k own nm cc ret fr lo) (ha : SE k w pc a (p1, p1)) (hb : SE k (w + 1) p1 b (p2, p2)) (hd : decode cc p2 = .ok (.if_icmp .ne off, 3)) (ht : (p2 : Int) + off = (tg : Int)) (hT : zxx T (p2 + 3)) (hF : zxx F (tg)) : SB k w pc (bI rEq a b) T F := by
  intro L st μ t μ' h hw kt kf
  unfold bI at h
  split at h
  case h_2 => cases h
  rename_i x μ1 h1
  split at h
  case h_2 => cases h
  rename_i y μ2 h2
  cases h
  have g3 : Go k p2 L (.int y :: .int x :: st) μ' := by
    cases e : rEq x y with
    | true => exact go_icmp_ne_f K hd ht (rEq_nt e) ((kt e).at hT)
    | false => exact go_icmp_ne_t K hd ht (rEq_nf e) ((kf e).at hF)
  have g2 := hb _ _ _ _ _ h2 (wt_1 rfl hw) ⟨g3, g3⟩
  exact ha _ _ _ _ _ h1 hw ⟨g2, g2⟩
theorem b_Zeq_n {k : Kt} {own nm : String} {cc : ByteArray} {ret : Option FieldType} {fr lo : Nat} {w pc p1 tg : Nat} {off : Int} {a : Xp} {T F : Nat × Nat} (K : Ctx k own nm cc ret fr lo) (ha : SE k w pc a (p1, p1)) (hd : decode cc p1 = .ok (.ifCond .ne off, 3)) (ht : (p1 : Int) + off = (tg : Int)) (hT : zxx T (p1 + 3)) (hF : zxx F (tg)) : SB k w pc (bI rEq a (cI 0)) T F := by
  intro L st μ t μ' h hw kt kf
  unfold bI cI at h
  split at h
  case h_2 => cases h
  rename_i x μ1 h1
  cases h
  have g3 : Go k p1 L (.int x :: st) μ' := by
    cases e : rEq x 0 with
    | true => exact go_if_ne_f K hd ht (rEq_nt e) ((kt e).at hT)
    | false => exact go_if_ne_t K hd ht (rEq_nf e) ((kf e).at hF)
  exact ha _ _ _ _ _ h1 hw ⟨g3, g3⟩
theorem b_Jeq_n {k : Kt} {own nm : String} {cc : ByteArray} {ret : Option FieldType} {fr lo : Nat} {w pc p1 p2 p3 tg : Nat} {off : Int} {a b : Xp} {T F : Nat × Nat} (K : Ctx k own nm cc ret fr lo) (ha : SE k w pc a (p1, p1)) (hb : SE k (w + 2) p1 b (p2, p2)) (hd0 : decode cc p2 = .ok (.lcmp, 1)) (hd : decode cc (p2 + 1) = .ok (.ifCond .ne off, 3)) (ht : ((p2 + 1 : Nat) : Int) + off = (tg : Int)) (hT : zxx T (p2 + 1 + 3)) (hF : zxx F (tg)) : SB k w pc (bJ rEqJ a b) T F := by
  intro L st μ t μ' h hw kt kf
  unfold bJ at h
  split at h
  case h_2 => cases h
  rename_i x μ1 h1
  split at h
  case h_2 => cases h
  rename_i y μ2 h2
  cases h
  have g3 : Go k (p2 + 1) L (.int (lg_cmp x y) :: st) μ' := by
    cases e : rEqJ x y with
    | true => exact go_if_ne_f K hd ht (by have e9 := rEqJ_nt e; first | exact (lg_cmp_eq x y).mpr e9 | exact fun q => e9 ((lg_cmp_eq x y).mp q)) ((kt e).at hT)
    | false => exact go_if_ne_t K hd ht (by have e9 := rEqJ_nf e; first | exact (lg_cmp_eq x y).mpr e9 | exact fun q => e9 ((lg_cmp_eq x y).mp q)) ((kf e).at hF)
  have g4 := go_lcmp K hd0 g3
  have g2 := hb _ _ _ _ _ h2 (wt_2 rfl hw) ⟨g4, g4⟩
  exact ha _ _ _ _ _ h1 hw ⟨g2, g2⟩
theorem b_Ieq_p {k : Kt} {own nm : String} {cc : ByteArray} {ret : Option FieldType} {fr lo : Nat} {w pc p1 p2 tg : Nat} {off : Int} {a b : Xp} {T F : Nat × Nat} (K : Ctx k own nm cc ret fr lo) (ha : SE k w pc a (p1, p1)) (hb : SE k (w + 1) p1 b (p2, p2)) (hd : decode cc p2 = .ok (.if_icmp .eq off, 3)) (ht : (p2 : Int) + off = (tg : Int)) (hT : zxx T (tg)) (hF : zxx F (p2 + 3)) : SB k w pc (bI rEq a b) T F := by
  intro L st μ t μ' h hw kt kf
  unfold bI at h
  split at h
  case h_2 => cases h
  rename_i x μ1 h1
  split at h
  case h_2 => cases h
  rename_i y μ2 h2
  cases h
  have g3 : Go k p2 L (.int y :: .int x :: st) μ' := by
    cases e : rEq x y with
    | true => exact go_icmp_eq_t K hd ht (rEq_t e) ((kt e).at hT)
    | false => exact go_icmp_eq_f K hd ht (rEq_f e) ((kf e).at hF)
  have g2 := hb _ _ _ _ _ h2 (wt_1 rfl hw) ⟨g3, g3⟩
  exact ha _ _ _ _ _ h1 hw ⟨g2, g2⟩
theorem b_Zeq_p {k : Kt} {own nm : String} {cc : ByteArray} {ret : Option FieldType} {fr lo : Nat} {w pc p1 tg : Nat} {off : Int} {a : Xp} {T F : Nat × Nat} (K : Ctx k own nm cc ret fr lo) (ha : SE k w pc a (p1, p1)) (hd : decode cc p1 = .ok (.ifCond .eq off, 3)) (ht : (p1 : Int) + off = (tg : Int)) (hT : zxx T (tg)) (hF : zxx F (p1 + 3)) : SB k w pc (bI rEq a (cI 0)) T F := by
  intro L st μ t μ' h hw kt kf
  unfold bI cI at h
  split at h
  case h_2 => cases h
  rename_i x μ1 h1
  cases h
  have g3 : Go k p1 L (.int x :: st) μ' := by
    cases e : rEq x 0 with
    | true => exact go_if_eq_t K hd ht (rEq_t e) ((kt e).at hT)
    | false => exact go_if_eq_f K hd ht (rEq_f e) ((kf e).at hF)
  exact ha _ _ _ _ _ h1 hw ⟨g3, g3⟩
theorem b_Jeq_p {k : Kt} {own nm : String} {cc : ByteArray} {ret : Option FieldType} {fr lo : Nat} {w pc p1 p2 p3 tg : Nat} {off : Int} {a b : Xp} {T F : Nat × Nat} (K : Ctx k own nm cc ret fr lo) (ha : SE k w pc a (p1, p1)) (hb : SE k (w + 2) p1 b (p2, p2)) (hd0 : decode cc p2 = .ok (.lcmp, 1)) (hd : decode cc (p2 + 1) = .ok (.ifCond .eq off, 3)) (ht : ((p2 + 1 : Nat) : Int) + off = (tg : Int)) (hT : zxx T (tg)) (hF : zxx F (p2 + 1 + 3)) : SB k w pc (bJ rEqJ a b) T F := by
  intro L st μ t μ' h hw kt kf
  unfold bJ at h
  split at h
  case h_2 => cases h
  rename_i x μ1 h1
  split at h
  case h_2 => cases h
  rename_i y μ2 h2
  cases h
  have g3 : Go k (p2 + 1) L (.int (lg_cmp x y) :: st) μ' := by
    cases e : rEqJ x y with
    | true => exact go_if_eq_t K hd ht (by have e9 := rEqJ_t e; first | exact (lg_cmp_eq x y).mpr e9 | exact fun q => e9 ((lg_cmp_eq x y).mp q)) ((kt e).at hT)
    | false => exact go_if_eq_f K hd ht (by have e9 := rEqJ_f e; first | exact (lg_cmp_eq x y).mpr e9 | exact fun q => e9 ((lg_cmp_eq x y).mp q)) ((kf e).at hF)
  have g4 := go_lcmp K hd0 g3
  have g2 := hb _ _ _ _ _ h2 (wt_2 rfl hw) ⟨g4, g4⟩
  exact ha _ _ _ _ _ h1 hw ⟨g2, g2⟩
theorem b_Ine_n {k : Kt} {own nm : String} {cc : ByteArray} {ret : Option FieldType} {fr lo : Nat} {w pc p1 p2 tg : Nat} {off : Int} {a b : Xp} {T F : Nat × Nat} (K : Ctx k own nm cc ret fr lo) (ha : SE k w pc a (p1, p1)) (hb : SE k (w + 1) p1 b (p2, p2)) (hd : decode cc p2 = .ok (.if_icmp .eq off, 3)) (ht : (p2 : Int) + off = (tg : Int)) (hT : zxx T (p2 + 3)) (hF : zxx F (tg)) : SB k w pc (bI rNe a b) T F := by
  intro L st μ t μ' h hw kt kf
  unfold bI at h
  split at h
  case h_2 => cases h
  rename_i x μ1 h1
  split at h
  case h_2 => cases h
  rename_i y μ2 h2
  cases h
  have g3 : Go k p2 L (.int y :: .int x :: st) μ' := by
    cases e : rNe x y with
    | true => exact go_icmp_eq_f K hd ht (rNe_nt e) ((kt e).at hT)
    | false => exact go_icmp_eq_t K hd ht (rNe_nf e) ((kf e).at hF)
  have g2 := hb _ _ _ _ _ h2 (wt_1 rfl hw) ⟨g3, g3⟩
  exact ha _ _ _ _ _ h1 hw ⟨g2, g2⟩
theorem b_Zne_n {k : Kt} {own nm : String} {cc : ByteArray} {ret : Option FieldType} {fr lo : Nat} {w pc p1 tg : Nat} {off : Int} {a : Xp} {T F : Nat × Nat} (K : Ctx k own nm cc ret fr lo) (ha : SE k w pc a (p1, p1)) (hd : decode cc p1 = .ok (.ifCond .eq off, 3)) (ht : (p1 : Int) + off = (tg : Int)) (hT : zxx T (p1 + 3)) (hF : zxx F (tg)) : SB k w pc (bI rNe a (cI 0)) T F := by
  intro L st μ t μ' h hw kt kf
  unfold bI cI at h
  split at h
  case h_2 => cases h
  rename_i x μ1 h1
  cases h
  have g3 : Go k p1 L (.int x :: st) μ' := by
    cases e : rNe x 0 with
    | true => exact go_if_eq_f K hd ht (rNe_nt e) ((kt e).at hT)
    | false => exact go_if_eq_t K hd ht (rNe_nf e) ((kf e).at hF)
  exact ha _ _ _ _ _ h1 hw ⟨g3, g3⟩
theorem b_Jne_n {k : Kt} {own nm : String} {cc : ByteArray} {ret : Option FieldType} {fr lo : Nat} {w pc p1 p2 p3 tg : Nat} {off : Int} {a b : Xp} {T F : Nat × Nat} (K : Ctx k own nm cc ret fr lo) (ha : SE k w pc a (p1, p1)) (hb : SE k (w + 2) p1 b (p2, p2)) (hd0 : decode cc p2 = .ok (.lcmp, 1)) (hd : decode cc (p2 + 1) = .ok (.ifCond .eq off, 3)) (ht : ((p2 + 1 : Nat) : Int) + off = (tg : Int)) (hT : zxx T (p2 + 1 + 3)) (hF : zxx F (tg)) : SB k w pc (bJ rNeJ a b) T F := by
  intro L st μ t μ' h hw kt kf
  unfold bJ at h
  split at h
  case h_2 => cases h
  rename_i x μ1 h1
  split at h
  case h_2 => cases h
  rename_i y μ2 h2
  cases h
  have g3 : Go k (p2 + 1) L (.int (lg_cmp x y) :: st) μ' := by
    cases e : rNeJ x y with
    | true => exact go_if_eq_f K hd ht (by have e9 := rNeJ_nt e; first | exact (lg_cmp_eq x y).mpr e9 | exact fun q => e9 ((lg_cmp_eq x y).mp q)) ((kt e).at hT)
    | false => exact go_if_eq_t K hd ht (by have e9 := rNeJ_nf e; first | exact (lg_cmp_eq x y).mpr e9 | exact fun q => e9 ((lg_cmp_eq x y).mp q)) ((kf e).at hF)
  have g4 := go_lcmp K hd0 g3
  have g2 := hb _ _ _ _ _ h2 (wt_2 rfl hw) ⟨g4, g4⟩
  exact ha _ _ _ _ _ h1 hw ⟨g2, g2⟩
theorem b_Ine_p {k : Kt} {own nm : String} {cc : ByteArray} {ret : Option FieldType} {fr lo : Nat} {w pc p1 p2 tg : Nat} {off : Int} {a b : Xp} {T F : Nat × Nat} (K : Ctx k own nm cc ret fr lo) (ha : SE k w pc a (p1, p1)) (hb : SE k (w + 1) p1 b (p2, p2)) (hd : decode cc p2 = .ok (.if_icmp .ne off, 3)) (ht : (p2 : Int) + off = (tg : Int)) (hT : zxx T (tg)) (hF : zxx F (p2 + 3)) : SB k w pc (bI rNe a b) T F := by
  intro L st μ t μ' h hw kt kf
  unfold bI at h
  split at h
  case h_2 => cases h
  rename_i x μ1 h1
  split at h
  case h_2 => cases h
  rename_i y μ2 h2
  cases h
  have g3 : Go k p2 L (.int y :: .int x :: st) μ' := by
    cases e : rNe x y with
    | true => exact go_icmp_ne_t K hd ht (rNe_t e) ((kt e).at hT)
    | false => exact go_icmp_ne_f K hd ht (rNe_f e) ((kf e).at hF)
  have g2 := hb _ _ _ _ _ h2 (wt_1 rfl hw) ⟨g3, g3⟩
  exact ha _ _ _ _ _ h1 hw ⟨g2, g2⟩
theorem b_Zne_p {k : Kt} {own nm : String} {cc : ByteArray} {ret : Option FieldType} {fr lo : Nat} {w pc p1 tg : Nat} {off : Int} {a : Xp} {T F : Nat × Nat} (K : Ctx k own nm cc ret fr lo) (ha : SE k w pc a (p1, p1)) (hd : decode cc p1 = .ok (.ifCond .ne off, 3)) (ht : (p1 : Int) + off = (tg : Int)) (hT : zxx T (tg)) (hF : zxx F (p1 + 3)) : SB k w pc (bI rNe a (cI 0)) T F := by
  intro L st μ t μ' h hw kt kf
  unfold bI cI at h
  split at h
  case h_2 => cases h
  rename_i x μ1 h1
  cases h
  have g3 : Go k p1 L (.int x :: st) μ' := by
    cases e : rNe x 0 with
    | true => exact go_if_ne_t K hd ht (rNe_t e) ((kt e).at hT)
    | false => exact go_if_ne_f K hd ht (rNe_f e) ((kf e).at hF)
  exact ha _ _ _ _ _ h1 hw ⟨g3, g3⟩
theorem b_Jne_p {k : Kt} {own nm : String} {cc : ByteArray} {ret : Option FieldType} {fr lo : Nat} {w pc p1 p2 p3 tg : Nat} {off : Int} {a b : Xp} {T F : Nat × Nat} (K : Ctx k own nm cc ret fr lo) (ha : SE k w pc a (p1, p1)) (hb : SE k (w + 2) p1 b (p2, p2)) (hd0 : decode cc p2 = .ok (.lcmp, 1)) (hd : decode cc (p2 + 1) = .ok (.ifCond .ne off, 3)) (ht : ((p2 + 1 : Nat) : Int) + off = (tg : Int)) (hT : zxx T (tg)) (hF : zxx F (p2 + 1 + 3)) : SB k w pc (bJ rNeJ a b) T F := by
  intro L st μ t μ' h hw kt kf
  unfold bJ at h
  split at h
  case h_2 => cases h
  rename_i x μ1 h1
  split at h
  case h_2 => cases h
  rename_i y μ2 h2
  cases h
  have g3 : Go k (p2 + 1) L (.int (lg_cmp x y) :: st) μ' := by
    cases e : rNeJ x y with
    | true => exact go_if_ne_t K hd ht (by have e9 := rNeJ_t e; first | exact (lg_cmp_eq x y).mpr e9 | exact fun q => e9 ((lg_cmp_eq x y).mp q)) ((kt e).at hT)
    | false => exact go_if_ne_f K hd ht (by have e9 := rNeJ_f e; first | exact (lg_cmp_eq x y).mpr e9 | exact fun q => e9 ((lg_cmp_eq x y).mp q)) ((kf e).at hF)
  have g4 := go_lcmp K hd0 g3
  have g2 := hb _ _ _ _ _ h2 (wt_2 rfl hw) ⟨g4, g4⟩
  exact ha _ _ _ _ _ h1 hw ⟨g2, g2⟩
theorem b_Ilt_n {k : Kt} {own nm : String} {cc : ByteArray} {ret : Option FieldType} {fr lo : Nat} {w pc p1 p2 tg : Nat} {off : Int} {a b : Xp} {T F : Nat × Nat} (K : Ctx k own nm cc ret fr lo) (ha : SE k w pc a (p1, p1)) (hb : SE k (w + 1) p1 b (p2, p2)) (hd : decode cc p2 = .ok (.if_icmp .ge off, 3)) (ht : (p2 : Int) + off = (tg : Int)) (hT : zxx T (p2 + 3)) (hF : zxx F (tg)) : SB k w pc (bI rLt a b) T F := by
  intro L st μ t μ' h hw kt kf
  unfold bI at h
  split at h
  case h_2 => cases h
  rename_i x μ1 h1
  split at h
  case h_2 => cases h
  rename_i y μ2 h2
  cases h
  have g3 : Go k p2 L (.int y :: .int x :: st) μ' := by
    cases e : rLt x y with
    | true => exact go_icmp_ge_f K hd ht (rLt_nt e) ((kt e).at hT)
    | false => exact go_icmp_ge_t K hd ht (rLt_nf e) ((kf e).at hF)
  have g2 := hb _ _ _ _ _ h2 (wt_1 rfl hw) ⟨g3, g3⟩
  exact ha _ _ _ _ _ h1 hw ⟨g2, g2⟩
theorem b_Zlt_n {k : Kt} {own nm : String} {cc : ByteArray} {ret : Option FieldType} {fr lo : Nat} {w pc p1 tg : Nat} {off : Int} {a : Xp} {T F : Nat × Nat} (K : Ctx k own nm cc ret fr lo) (ha : SE k w pc a (p1, p1)) (hd : decode cc p1 = .ok (.ifCond .ge off, 3)) (ht : (p1 : Int) + off = (tg : Int)) (hT : zxx T (p1 + 3)) (hF : zxx F (tg)) : SB k w pc (bI rLt a (cI 0)) T F := by
  intro L st μ t μ' h hw kt kf
  unfold bI cI at h
  split at h
  case h_2 => cases h
  rename_i x μ1 h1
  cases h
  have g3 : Go k p1 L (.int x :: st) μ' := by
    cases e : rLt x 0 with
    | true => exact go_if_ge_f K hd ht (rLt_nt e) ((kt e).at hT)
    | false => exact go_if_ge_t K hd ht (rLt_nf e) ((kf e).at hF)
  exact ha _ _ _ _ _ h1 hw ⟨g3, g3⟩
theorem b_Jlt_n {k : Kt} {own nm : String} {cc : ByteArray} {ret : Option FieldType} {fr lo : Nat} {w pc p1 p2 p3 tg : Nat} {off : Int} {a b : Xp} {T F : Nat × Nat} (K : Ctx k own nm cc ret fr lo) (ha : SE k w pc a (p1, p1)) (hb : SE k (w + 2) p1 b (p2, p2)) (hd0 : decode cc p2 = .ok (.lcmp, 1)) (hd : decode cc (p2 + 1) = .ok (.ifCond .ge off, 3)) (ht : ((p2 + 1 : Nat) : Int) + off = (tg : Int)) (hT : zxx T (p2 + 1 + 3)) (hF : zxx F (tg)) : SB k w pc (bJ rLtJ a b) T F := by
  intro L st μ t μ' h hw kt kf
  unfold bJ at h
  split at h
  case h_2 => cases h
  rename_i x μ1 h1
  split at h
  case h_2 => cases h
  rename_i y μ2 h2
  cases h
  have g3 : Go k (p2 + 1) L (.int (lg_cmp x y) :: st) μ' := by
    cases e : rLtJ x y with
    | true => exact go_if_ge_f K hd ht (by have e9 := rLtJ_nt e; first | exact (lg_cmp_ge x y).mpr e9 | exact fun q => e9 ((lg_cmp_ge x y).mp q)) ((kt e).at hT)
    | false => exact go_if_ge_t K hd ht (by have e9 := rLtJ_nf e; first | exact (lg_cmp_ge x y).mpr e9 | exact fun q => e9 ((lg_cmp_ge x y).mp q)) ((kf e).at hF)
  have g4 := go_lcmp K hd0 g3
  have g2 := hb _ _ _ _ _ h2 (wt_2 rfl hw) ⟨g4, g4⟩
  exact ha _ _ _ _ _ h1 hw ⟨g2, g2⟩
theorem b_Ilt_p {k : Kt} {own nm : String} {cc : ByteArray} {ret : Option FieldType} {fr lo : Nat} {w pc p1 p2 tg : Nat} {off : Int} {a b : Xp} {T F : Nat × Nat} (K : Ctx k own nm cc ret fr lo) (ha : SE k w pc a (p1, p1)) (hb : SE k (w + 1) p1 b (p2, p2)) (hd : decode cc p2 = .ok (.if_icmp .lt off, 3)) (ht : (p2 : Int) + off = (tg : Int)) (hT : zxx T (tg)) (hF : zxx F (p2 + 3)) : SB k w pc (bI rLt a b) T F := by
  intro L st μ t μ' h hw kt kf
  unfold bI at h
  split at h
  case h_2 => cases h
  rename_i x μ1 h1
  split at h
  case h_2 => cases h
  rename_i y μ2 h2
  cases h
  have g3 : Go k p2 L (.int y :: .int x :: st) μ' := by
    cases e : rLt x y with
    | true => exact go_icmp_lt_t K hd ht (rLt_t e) ((kt e).at hT)
    | false => exact go_icmp_lt_f K hd ht (rLt_f e) ((kf e).at hF)
  have g2 := hb _ _ _ _ _ h2 (wt_1 rfl hw) ⟨g3, g3⟩
  exact ha _ _ _ _ _ h1 hw ⟨g2, g2⟩
theorem b_Zlt_p {k : Kt} {own nm : String} {cc : ByteArray} {ret : Option FieldType} {fr lo : Nat} {w pc p1 tg : Nat} {off : Int} {a : Xp} {T F : Nat × Nat} (K : Ctx k own nm cc ret fr lo) (ha : SE k w pc a (p1, p1)) (hd : decode cc p1 = .ok (.ifCond .lt off, 3)) (ht : (p1 : Int) + off = (tg : Int)) (hT : zxx T (tg)) (hF : zxx F (p1 + 3)) : SB k w pc (bI rLt a (cI 0)) T F := by
  intro L st μ t μ' h hw kt kf
  unfold bI cI at h
  split at h
  case h_2 => cases h
  rename_i x μ1 h1
  cases h
  have g3 : Go k p1 L (.int x :: st) μ' := by
    cases e : rLt x 0 with
    | true => exact go_if_lt_t K hd ht (rLt_t e) ((kt e).at hT)
    | false => exact go_if_lt_f K hd ht (rLt_f e) ((kf e).at hF)
  exact ha _ _ _ _ _ h1 hw ⟨g3, g3⟩
theorem b_Jlt_p {k : Kt} {own nm : String} {cc : ByteArray} {ret : Option FieldType} {fr lo : Nat} {w pc p1 p2 p3 tg : Nat} {off : Int} {a b : Xp} {T F : Nat × Nat} (K : Ctx k own nm cc ret fr lo) (ha : SE k w pc a (p1, p1)) (hb : SE k (w + 2) p1 b (p2, p2)) (hd0 : decode cc p2 = .ok (.lcmp, 1)) (hd : decode cc (p2 + 1) = .ok (.ifCond .lt off, 3)) (ht : ((p2 + 1 : Nat) : Int) + off = (tg : Int)) (hT : zxx T (tg)) (hF : zxx F (p2 + 1 + 3)) : SB k w pc (bJ rLtJ a b) T F := by
  intro L st μ t μ' h hw kt kf
  unfold bJ at h
  split at h
  case h_2 => cases h
  rename_i x μ1 h1
  split at h
  case h_2 => cases h
  rename_i y μ2 h2
  cases h
  have g3 : Go k (p2 + 1) L (.int (lg_cmp x y) :: st) μ' := by
    cases e : rLtJ x y with
    | true => exact go_if_lt_t K hd ht (by have e9 := rLtJ_t e; first | exact (lg_cmp_lt x y).mpr e9 | exact fun q => e9 ((lg_cmp_lt x y).mp q)) ((kt e).at hT)
    | false => exact go_if_lt_f K hd ht (by have e9 := rLtJ_f e; first | exact (lg_cmp_lt x y).mpr e9 | exact fun q => e9 ((lg_cmp_lt x y).mp q)) ((kf e).at hF)
  have g4 := go_lcmp K hd0 g3
  have g2 := hb _ _ _ _ _ h2 (wt_2 rfl hw) ⟨g4, g4⟩
  exact ha _ _ _ _ _ h1 hw ⟨g2, g2⟩
theorem b_Ige_n {k : Kt} {own nm : String} {cc : ByteArray} {ret : Option FieldType} {fr lo : Nat} {w pc p1 p2 tg : Nat} {off : Int} {a b : Xp} {T F : Nat × Nat} (K : Ctx k own nm cc ret fr lo) (ha : SE k w pc a (p1, p1)) (hb : SE k (w + 1) p1 b (p2, p2)) (hd : decode cc p2 = .ok (.if_icmp .lt off, 3)) (ht : (p2 : Int) + off = (tg : Int)) (hT : zxx T (p2 + 3)) (hF : zxx F (tg)) : SB k w pc (bI rGe a b) T F := by
  intro L st μ t μ' h hw kt kf
  unfold bI at h
  split at h
  case h_2 => cases h
  rename_i x μ1 h1
  split at h
  case h_2 => cases h
  rename_i y μ2 h2
  cases h
  have g3 : Go k p2 L (.int y :: .int x :: st) μ' := by
    cases e : rGe x y with
    | true => exact go_icmp_lt_f K hd ht (rGe_nt e) ((kt e).at hT)
    | false => exact go_icmp_lt_t K hd ht (rGe_nf e) ((kf e).at hF)
  have g2 := hb _ _ _ _ _ h2 (wt_1 rfl hw) ⟨g3, g3⟩
  exact ha _ _ _ _ _ h1 hw ⟨g2, g2⟩
theorem b_Zge_n {k : Kt} {own nm : String} {cc : ByteArray} {ret : Option FieldType} {fr lo : Nat} {w pc p1 tg : Nat} {off : Int} {a : Xp} {T F : Nat × Nat} (K : Ctx k own nm cc ret fr lo) (ha : SE k w pc a (p1, p1)) (hd : decode cc p1 = .ok (.ifCond .lt off, 3)) (ht : (p1 : Int) + off = (tg : Int)) (hT : zxx T (p1 + 3)) (hF : zxx F (tg)) : SB k w pc (bI rGe a (cI 0)) T F := by
  intro L st μ t μ' h hw kt kf
  unfold bI cI at h
  split at h
  case h_2 => cases h
  rename_i x μ1 h1
  cases h
  have g3 : Go k p1 L (.int x :: st) μ' := by
    cases e : rGe x 0 with
    | true => exact go_if_lt_f K hd ht (rGe_nt e) ((kt e).at hT)
    | false => exact go_if_lt_t K hd ht (rGe_nf e) ((kf e).at hF)
  exact ha _ _ _ _ _ h1 hw ⟨g3, g3⟩
theorem b_Jge_n {k : Kt} {own nm : String} {cc : ByteArray} {ret : Option FieldType} {fr lo : Nat} {w pc p1 p2 p3 tg : Nat} {off : Int} {a b : Xp} {T F : Nat × Nat} (K : Ctx k own nm cc ret fr lo) (ha : SE k w pc a (p1, p1)) (hb : SE k (w + 2) p1 b (p2, p2)) (hd0 : decode cc p2 = .ok (.lcmp, 1)) (hd : decode cc (p2 + 1) = .ok (.ifCond .lt off, 3)) (ht : ((p2 + 1 : Nat) : Int) + off = (tg : Int)) (hT : zxx T (p2 + 1 + 3)) (hF : zxx F (tg)) : SB k w pc (bJ rGeJ a b) T F := by
  intro L st μ t μ' h hw kt kf
  unfold bJ at h
  split at h
  case h_2 => cases h
  rename_i x μ1 h1
  split at h
  case h_2 => cases h
  rename_i y μ2 h2
  cases h
  have g3 : Go k (p2 + 1) L (.int (lg_cmp x y) :: st) μ' := by
    cases e : rGeJ x y with
    | true => exact go_if_lt_f K hd ht (by have e9 := rGeJ_nt e; first | exact (lg_cmp_lt x y).mpr e9 | exact fun q => e9 ((lg_cmp_lt x y).mp q)) ((kt e).at hT)
    | false => exact go_if_lt_t K hd ht (by have e9 := rGeJ_nf e; first | exact (lg_cmp_lt x y).mpr e9 | exact fun q => e9 ((lg_cmp_lt x y).mp q)) ((kf e).at hF)
  have g4 := go_lcmp K hd0 g3
  have g2 := hb _ _ _ _ _ h2 (wt_2 rfl hw) ⟨g4, g4⟩
  exact ha _ _ _ _ _ h1 hw ⟨g2, g2⟩
theorem b_Ige_p {k : Kt} {own nm : String} {cc : ByteArray} {ret : Option FieldType} {fr lo : Nat} {w pc p1 p2 tg : Nat} {off : Int} {a b : Xp} {T F : Nat × Nat} (K : Ctx k own nm cc ret fr lo) (ha : SE k w pc a (p1, p1)) (hb : SE k (w + 1) p1 b (p2, p2)) (hd : decode cc p2 = .ok (.if_icmp .ge off, 3)) (ht : (p2 : Int) + off = (tg : Int)) (hT : zxx T (tg)) (hF : zxx F (p2 + 3)) : SB k w pc (bI rGe a b) T F := by
  intro L st μ t μ' h hw kt kf
  unfold bI at h
  split at h
  case h_2 => cases h
  rename_i x μ1 h1
  split at h
  case h_2 => cases h
  rename_i y μ2 h2
  cases h
  have g3 : Go k p2 L (.int y :: .int x :: st) μ' := by
    cases e : rGe x y with
    | true => exact go_icmp_ge_t K hd ht (rGe_t e) ((kt e).at hT)
    | false => exact go_icmp_ge_f K hd ht (rGe_f e) ((kf e).at hF)
  have g2 := hb _ _ _ _ _ h2 (wt_1 rfl hw) ⟨g3, g3⟩
  exact ha _ _ _ _ _ h1 hw ⟨g2, g2⟩
theorem b_Zge_p {k : Kt} {own nm : String} {cc : ByteArray} {ret : Option FieldType} {fr lo : Nat} {w pc p1 tg : Nat} {off : Int} {a : Xp} {T F : Nat × Nat} (K : Ctx k own nm cc ret fr lo) (ha : SE k w pc a (p1, p1)) (hd : decode cc p1 = .ok (.ifCond .ge off, 3)) (ht : (p1 : Int) + off = (tg : Int)) (hT : zxx T (tg)) (hF : zxx F (p1 + 3)) : SB k w pc (bI rGe a (cI 0)) T F := by
  intro L st μ t μ' h hw kt kf
  unfold bI cI at h
  split at h
  case h_2 => cases h
  rename_i x μ1 h1
  cases h
  have g3 : Go k p1 L (.int x :: st) μ' := by
    cases e : rGe x 0 with
    | true => exact go_if_ge_t K hd ht (rGe_t e) ((kt e).at hT)
    | false => exact go_if_ge_f K hd ht (rGe_f e) ((kf e).at hF)
  exact ha _ _ _ _ _ h1 hw ⟨g3, g3⟩
theorem b_Jge_p {k : Kt} {own nm : String} {cc : ByteArray} {ret : Option FieldType} {fr lo : Nat} {w pc p1 p2 p3 tg : Nat} {off : Int} {a b : Xp} {T F : Nat × Nat} (K : Ctx k own nm cc ret fr lo) (ha : SE k w pc a (p1, p1)) (hb : SE k (w + 2) p1 b (p2, p2)) (hd0 : decode cc p2 = .ok (.lcmp, 1)) (hd : decode cc (p2 + 1) = .ok (.ifCond .ge off, 3)) (ht : ((p2 + 1 : Nat) : Int) + off = (tg : Int)) (hT : zxx T (tg)) (hF : zxx F (p2 + 1 + 3)) : SB k w pc (bJ rGeJ a b) T F := by
  intro L st μ t μ' h hw kt kf
  unfold bJ at h
  split at h
  case h_2 => cases h
  rename_i x μ1 h1
  split at h
  case h_2 => cases h
  rename_i y μ2 h2
  cases h
  have g3 : Go k (p2 + 1) L (.int (lg_cmp x y) :: st) μ' := by
    cases e : rGeJ x y with
    | true => exact go_if_ge_t K hd ht (by have e9 := rGeJ_t e; first | exact (lg_cmp_ge x y).mpr e9 | exact fun q => e9 ((lg_cmp_ge x y).mp q)) ((kt e).at hT)
    | false => exact go_if_ge_f K hd ht (by have e9 := rGeJ_f e; first | exact (lg_cmp_ge x y).mpr e9 | exact fun q => e9 ((lg_cmp_ge x y).mp q)) ((kf e).at hF)
  have g4 := go_lcmp K hd0 g3
  have g2 := hb _ _ _ _ _ h2 (wt_2 rfl hw) ⟨g4, g4⟩
  exact ha _ _ _ _ _ h1 hw ⟨g2, g2⟩
theorem b_Igt_n {k : Kt} {own nm : String} {cc : ByteArray} {ret : Option FieldType} {fr lo : Nat} {w pc p1 p2 tg : Nat} {off : Int} {a b : Xp} {T F : Nat × Nat} (K : Ctx k own nm cc ret fr lo) (ha : SE k w pc a (p1, p1)) (hb : SE k (w + 1) p1 b (p2, p2)) (hd : decode cc p2 = .ok (.if_icmp .le off, 3)) (ht : (p2 : Int) + off = (tg : Int)) (hT : zxx T (p2 + 3)) (hF : zxx F (tg)) : SB k w pc (bI rGt a b) T F := by
  intro L st μ t μ' h hw kt kf
  unfold bI at h
  split at h
  case h_2 => cases h
  rename_i x μ1 h1
  split at h
  case h_2 => cases h
  rename_i y μ2 h2
  cases h
  have g3 : Go k p2 L (.int y :: .int x :: st) μ' := by
    cases e : rGt x y with
    | true => exact go_icmp_le_f K hd ht (rGt_nt e) ((kt e).at hT)
    | false => exact go_icmp_le_t K hd ht (rGt_nf e) ((kf e).at hF)
  have g2 := hb _ _ _ _ _ h2 (wt_1 rfl hw) ⟨g3, g3⟩
  exact ha _ _ _ _ _ h1 hw ⟨g2, g2⟩
theorem b_Zgt_n {k : Kt} {own nm : String} {cc : ByteArray} {ret : Option FieldType} {fr lo : Nat} {w pc p1 tg : Nat} {off : Int} {a : Xp} {T F : Nat × Nat} (K : Ctx k own nm cc ret fr lo) (ha : SE k w pc a (p1, p1)) (hd : decode cc p1 = .ok (.ifCond .le off, 3)) (ht : (p1 : Int) + off = (tg : Int)) (hT : zxx T (p1 + 3)) (hF : zxx F (tg)) : SB k w pc (bI rGt a (cI 0)) T F := by
  intro L st μ t μ' h hw kt kf
  unfold bI cI at h
  split at h
  case h_2 => cases h
  rename_i x μ1 h1
  cases h
  have g3 : Go k p1 L (.int x :: st) μ' := by
    cases e : rGt x 0 with
    | true => exact go_if_le_f K hd ht (rGt_nt e) ((kt e).at hT)
    | false => exact go_if_le_t K hd ht (rGt_nf e) ((kf e).at hF)
  exact ha _ _ _ _ _ h1 hw ⟨g3, g3⟩
theorem b_Jgt_n {k : Kt} {own nm : String} {cc : ByteArray} {ret : Option FieldType} {fr lo : Nat} {w pc p1 p2 p3 tg : Nat} {off : Int} {a b : Xp} {T F : Nat × Nat} (K : Ctx k own nm cc ret fr lo) (ha : SE k w pc a (p1, p1)) (hb : SE k (w + 2) p1 b (p2, p2)) (hd0 : decode cc p2 = .ok (.lcmp, 1)) (hd : decode cc (p2 + 1) = .ok (.ifCond .le off, 3)) (ht : ((p2 + 1 : Nat) : Int) + off = (tg : Int)) (hT : zxx T (p2 + 1 + 3)) (hF : zxx F (tg)) : SB k w pc (bJ rGtJ a b) T F := by
  intro L st μ t μ' h hw kt kf
  unfold bJ at h
  split at h
  case h_2 => cases h
  rename_i x μ1 h1
  split at h
  case h_2 => cases h
  rename_i y μ2 h2
  cases h
  have g3 : Go k (p2 + 1) L (.int (lg_cmp x y) :: st) μ' := by
    cases e : rGtJ x y with
    | true => exact go_if_le_f K hd ht (by have e9 := rGtJ_nt e; first | exact (lg_cmp_le x y).mpr e9 | exact fun q => e9 ((lg_cmp_le x y).mp q)) ((kt e).at hT)
    | false => exact go_if_le_t K hd ht (by have e9 := rGtJ_nf e; first | exact (lg_cmp_le x y).mpr e9 | exact fun q => e9 ((lg_cmp_le x y).mp q)) ((kf e).at hF)
  have g4 := go_lcmp K hd0 g3
  have g2 := hb _ _ _ _ _ h2 (wt_2 rfl hw) ⟨g4, g4⟩
  exact ha _ _ _ _ _ h1 hw ⟨g2, g2⟩
theorem b_Igt_p {k : Kt} {own nm : String} {cc : ByteArray} {ret : Option FieldType} {fr lo : Nat} {w pc p1 p2 tg : Nat} {off : Int} {a b : Xp} {T F : Nat × Nat} (K : Ctx k own nm cc ret fr lo) (ha : SE k w pc a (p1, p1)) (hb : SE k (w + 1) p1 b (p2, p2)) (hd : decode cc p2 = .ok (.if_icmp .gt off, 3)) (ht : (p2 : Int) + off = (tg : Int)) (hT : zxx T (tg)) (hF : zxx F (p2 + 3)) : SB k w pc (bI rGt a b) T F := by
  intro L st μ t μ' h hw kt kf
  unfold bI at h
  split at h
  case h_2 => cases h
  rename_i x μ1 h1
  split at h
  case h_2 => cases h
  rename_i y μ2 h2
  cases h
  have g3 : Go k p2 L (.int y :: .int x :: st) μ' := by
    cases e : rGt x y with
    | true => exact go_icmp_gt_t K hd ht (rGt_t e) ((kt e).at hT)
    | false => exact go_icmp_gt_f K hd ht (rGt_f e) ((kf e).at hF)
  have g2 := hb _ _ _ _ _ h2 (wt_1 rfl hw) ⟨g3, g3⟩
  exact ha _ _ _ _ _ h1 hw ⟨g2, g2⟩
theorem b_Zgt_p {k : Kt} {own nm : String} {cc : ByteArray} {ret : Option FieldType} {fr lo : Nat} {w pc p1 tg : Nat} {off : Int} {a : Xp} {T F : Nat × Nat} (K : Ctx k own nm cc ret fr lo) (ha : SE k w pc a (p1, p1)) (hd : decode cc p1 = .ok (.ifCond .gt off, 3)) (ht : (p1 : Int) + off = (tg : Int)) (hT : zxx T (tg)) (hF : zxx F (p1 + 3)) : SB k w pc (bI rGt a (cI 0)) T F := by
  intro L st μ t μ' h hw kt kf
  unfold bI cI at h
  split at h
  case h_2 => cases h
  rename_i x μ1 h1
  cases h
  have g3 : Go k p1 L (.int x :: st) μ' := by
    cases e : rGt x 0 with
    | true => exact go_if_gt_t K hd ht (rGt_t e) ((kt e).at hT)
    | false => exact go_if_gt_f K hd ht (rGt_f e) ((kf e).at hF)
  exact ha _ _ _ _ _ h1 hw ⟨g3, g3⟩
theorem b_Jgt_p {k : Kt} {own nm : String} {cc : ByteArray} {ret : Option FieldType} {fr lo : Nat} {w pc p1 p2 p3 tg : Nat} {off : Int} {a b : Xp} {T F : Nat × Nat} (K : Ctx k own nm cc ret fr lo) (ha : SE k w pc a (p1, p1)) (hb : SE k (w + 2) p1 b (p2, p2)) (hd0 : decode cc p2 = .ok (.lcmp, 1)) (hd : decode cc (p2 + 1) = .ok (.ifCond .gt off, 3)) (ht : ((p2 + 1 : Nat) : Int) + off = (tg : Int)) (hT : zxx T (tg)) (hF : zxx F (p2 + 1 + 3)) : SB k w pc (bJ rGtJ a b) T F := by
  intro L st μ t μ' h hw kt kf
  unfold bJ at h
  split at h
  case h_2 => cases h
  rename_i x μ1 h1
  split at h
  case h_2 => cases h
  rename_i y μ2 h2
  cases h
  have g3 : Go k (p2 + 1) L (.int (lg_cmp x y) :: st) μ' := by
    cases e : rGtJ x y with
    | true => exact go_if_gt_t K hd ht (by have e9 := rGtJ_t e; first | exact (lg_cmp_gt x y).mpr e9 | exact fun q => e9 ((lg_cmp_gt x y).mp q)) ((kt e).at hT)
    | false => exact go_if_gt_f K hd ht (by have e9 := rGtJ_f e; first | exact (lg_cmp_gt x y).mpr e9 | exact fun q => e9 ((lg_cmp_gt x y).mp q)) ((kf e).at hF)
  have g4 := go_lcmp K hd0 g3
  have g2 := hb _ _ _ _ _ h2 (wt_2 rfl hw) ⟨g4, g4⟩
  exact ha _ _ _ _ _ h1 hw ⟨g2, g2⟩
theorem b_Ile_n {k : Kt} {own nm : String} {cc : ByteArray} {ret : Option FieldType} {fr lo : Nat} {w pc p1 p2 tg : Nat} {off : Int} {a b : Xp} {T F : Nat × Nat} (K : Ctx k own nm cc ret fr lo) (ha : SE k w pc a (p1, p1)) (hb : SE k (w + 1) p1 b (p2, p2)) (hd : decode cc p2 = .ok (.if_icmp .gt off, 3)) (ht : (p2 : Int) + off = (tg : Int)) (hT : zxx T (p2 + 3)) (hF : zxx F (tg)) : SB k w pc (bI rLe a b) T F := by
  intro L st μ t μ' h hw kt kf
  unfold bI at h
  split at h
  case h_2 => cases h
  rename_i x μ1 h1
  split at h
  case h_2 => cases h
  rename_i y μ2 h2
  cases h
  have g3 : Go k p2 L (.int y :: .int x :: st) μ' := by
    cases e : rLe x y with
    | true => exact go_icmp_gt_f K hd ht (rLe_nt e) ((kt e).at hT)
    | false => exact go_icmp_gt_t K hd ht (rLe_nf e) ((kf e).at hF)
  have g2 := hb _ _ _ _ _ h2 (wt_1 rfl hw) ⟨g3, g3⟩
  exact ha _ _ _ _ _ h1 hw ⟨g2, g2⟩
theorem b_Zle_n {k : Kt} {own nm : String} {cc : ByteArray} {ret : Option FieldType} {fr lo : Nat} {w pc p1 tg : Nat} {off : Int} {a : Xp} {T F : Nat × Nat} (K : Ctx k own nm cc ret fr lo) (ha : SE k w pc a (p1, p1)) (hd : decode cc p1 = .ok (.ifCond .gt off, 3)) (ht : (p1 : Int) + off = (tg : Int)) (hT : zxx T (p1 + 3)) (hF : zxx F (tg)) : SB k w pc (bI rLe a (cI 0)) T F := by
  intro L st μ t μ' h hw kt kf
  unfold bI cI at h
  split at h
  case h_2 => cases h
  rename_i x μ1 h1
  cases h
  have g3 : Go k p1 L (.int x :: st) μ' := by
    cases e : rLe x 0 with
    | true => exact go_if_gt_f K hd ht (rLe_nt e) ((kt e).at hT)
    | false => exact go_if_gt_t K hd ht (rLe_nf e) ((kf e).at hF)
  exact ha _ _ _ _ _ h1 hw ⟨g3, g3⟩
theorem b_Jle_n {k : Kt} {own nm : String} {cc : ByteArray} {ret : Option FieldType} {fr lo : Nat} {w pc p1 p2 p3 tg : Nat} {off : Int} {a b : Xp} {T F : Nat × Nat} (K : Ctx k own nm cc ret fr lo) (ha : SE k w pc a (p1, p1)) (hb : SE k (w + 2) p1 b (p2, p2)) (hd0 : decode cc p2 = .ok (.lcmp, 1)) (hd : decode cc (p2 + 1) = .ok (.ifCond .gt off, 3)) (ht : ((p2 + 1 : Nat) : Int) + off = (tg : Int)) (hT : zxx T (p2 + 1 + 3)) (hF : zxx F (tg)) : SB k w pc (bJ rLeJ a b) T F := by
  intro L st μ t μ' h hw kt kf
  unfold bJ at h
  split at h
  case h_2 => cases h
  rename_i x μ1 h1
  split at h
  case h_2 => cases h
  rename_i y μ2 h2
  cases h
  have g3 : Go k (p2 + 1) L (.int (lg_cmp x y) :: st) μ' := by
    cases e : rLeJ x y with
    | true => exact go_if_gt_f K hd ht (by have e9 := rLeJ_nt e; first | exact (lg_cmp_gt x y).mpr e9 | exact fun q => e9 ((lg_cmp_gt x y).mp q)) ((kt e).at hT)
    | false => exact go_if_gt_t K hd ht (by have e9 := rLeJ_nf e; first | exact (lg_cmp_gt x y).mpr e9 | exact fun q => e9 ((lg_cmp_gt x y).mp q)) ((kf e).at hF)
  have g4 := go_lcmp K hd0 g3
  have g2 := hb _ _ _ _ _ h2 (wt_2 rfl hw) ⟨g4, g4⟩
  exact ha _ _ _ _ _ h1 hw ⟨g2, g2⟩
theorem b_Ile_p {k : Kt} {own nm : String} {cc : ByteArray} {ret : Option FieldType} {fr lo : Nat} {w pc p1 p2 tg : Nat} {off : Int} {a b : Xp} {T F : Nat × Nat} (K : Ctx k own nm cc ret fr lo) (ha : SE k w pc a (p1, p1)) (hb : SE k (w + 1) p1 b (p2, p2)) (hd : decode cc p2 = .ok (.if_icmp .le off, 3)) (ht : (p2 : Int) + off = (tg : Int)) (hT : zxx T (tg)) (hF : zxx F (p2 + 3)) : SB k w pc (bI rLe a b) T F := by
  intro L st μ t μ' h hw kt kf
  unfold bI at h
  split at h
  case h_2 => cases h
  rename_i x μ1 h1
  split at h
  case h_2 => cases h
  rename_i y μ2 h2
  cases h
  have g3 : Go k p2 L (.int y :: .int x :: st) μ' := by
    cases e : rLe x y with
    | true => exact go_icmp_le_t K hd ht (rLe_t e) ((kt e).at hT)
    | false => exact go_icmp_le_f K hd ht (rLe_f e) ((kf e).at hF)
  have g2 := hb _ _ _ _ _ h2 (wt_1 rfl hw) ⟨g3, g3⟩
  exact ha _ _ _ _ _ h1 hw ⟨g2, g2⟩
theorem b_Zle_p {k : Kt} {own nm : String} {cc : ByteArray} {ret : Option FieldType} {fr lo : Nat} {w pc p1 tg : Nat} {off : Int} {a : Xp} {T F : Nat × Nat} (K : Ctx k own nm cc ret fr lo) (ha : SE k w pc a (p1, p1)) (hd : decode cc p1 = .ok (.ifCond .le off, 3)) (ht : (p1 : Int) + off = (tg : Int)) (hT : zxx T (tg)) (hF : zxx F (p1 + 3)) : SB k w pc (bI rLe a (cI 0)) T F := by
  intro L st μ t μ' h hw kt kf
  unfold bI cI at h
  split at h
  case h_2 => cases h
  rename_i x μ1 h1
  cases h
  have g3 : Go k p1 L (.int x :: st) μ' := by
    cases e : rLe x 0 with
    | true => exact go_if_le_t K hd ht (rLe_t e) ((kt e).at hT)
    | false => exact go_if_le_f K hd ht (rLe_f e) ((kf e).at hF)
  exact ha _ _ _ _ _ h1 hw ⟨g3, g3⟩
theorem b_Jle_p {k : Kt} {own nm : String} {cc : ByteArray} {ret : Option FieldType} {fr lo : Nat} {w pc p1 p2 p3 tg : Nat} {off : Int} {a b : Xp} {T F : Nat × Nat} (K : Ctx k own nm cc ret fr lo) (ha : SE k w pc a (p1, p1)) (hb : SE k (w + 2) p1 b (p2, p2)) (hd0 : decode cc p2 = .ok (.lcmp, 1)) (hd : decode cc (p2 + 1) = .ok (.ifCond .le off, 3)) (ht : ((p2 + 1 : Nat) : Int) + off = (tg : Int)) (hT : zxx T (tg)) (hF : zxx F (p2 + 1 + 3)) : SB k w pc (bJ rLeJ a b) T F := by
  intro L st μ t μ' h hw kt kf
  unfold bJ at h
  split at h
  case h_2 => cases h
  rename_i x μ1 h1
  split at h
  case h_2 => cases h
  rename_i y μ2 h2
  cases h
  have g3 : Go k (p2 + 1) L (.int (lg_cmp x y) :: st) μ' := by
    cases e : rLeJ x y with
    | true => exact go_if_le_t K hd ht (by have e9 := rLeJ_t e; first | exact (lg_cmp_le x y).mpr e9 | exact fun q => e9 ((lg_cmp_le x y).mp q)) ((kt e).at hT)
    | false => exact go_if_le_f K hd ht (by have e9 := rLeJ_f e; first | exact (lg_cmp_le x y).mpr e9 | exact fun q => e9 ((lg_cmp_le x y).mp q)) ((kf e).at hF)
  have g4 := go_lcmp K hd0 g3
  have g2 := hb _ _ _ _ _ h2 (wt_2 rfl hw) ⟨g4, g4⟩
  exact ha _ _ _ _ _ h1 hw ⟨g2, g2⟩
theorem b_X_n {k : Kt} {own nm : String} {cc : ByteArray} {ret : Option FieldType} {fr lo : Nat} {w pc p1 tg : Nat} {off : Int} {a : Xp} {T F : Nat × Nat} (K : Ctx k own nm cc ret fr lo) (ha : SE k w pc a (p1, p1)) (hd : decode cc p1 = .ok (.ifCond .eq off, 3)) (ht : (p1 : Int) + off = (tg : Int)) (hT : zxx T (p1 + 3)) (hF : zxx F (tg)) : SB k w pc (bX a) T F := by
  intro L st μ t μ' h hw kt kf
  unfold bX at h
  split at h
  case h_2 => cases h
  rename_i x μ1 h1
  cases h
  have g3 : Go k p1 L (.int x :: st) μ' := by
    by_cases e : x = 0
    · exact go_if_eq_t K hd ht e ((kf (by simpa using e)).at hF)
    · exact go_if_eq_f K hd ht e ((kt (by simpa using e)).at hT)
  exact ha _ _ _ _ _ h1 hw ⟨g3, g3⟩
theorem b_X_p {k : Kt} {own nm : String} {cc : ByteArray} {ret : Option FieldType} {fr lo : Nat} {w pc p1 tg : Nat} {off : Int} {a : Xp} {T F : Nat × Nat} (K : Ctx k own nm cc ret fr lo) (ha : SE k w pc a (p1, p1)) (hd : decode cc p1 = .ok (.ifCond .ne off, 3)) (ht : (p1 : Int) + off = (tg : Int)) (hT : zxx T (tg)) (hF : zxx F (p1 + 3)) : SB k w pc (bX a) T F := by
  intro L st μ t μ' h hw kt kf
  unfold bX at h
  split at h
  case h_2 => cases h
  rename_i x μ1 h1
  cases h
  have g3 : Go k p1 L (.int x :: st) μ' := by
    by_cases e : x = 0
    · exact go_if_ne_f K hd ht e ((kf (by simpa using e)).at hF)
    · exact go_if_ne_t K hd ht e ((kt (by simpa using e)).at hT)
  exact ha _ _ _ _ _ h1 hw ⟨g3, g3⟩
theorem b_null_n {k : Kt} {own nm : String} {cc : ByteArray} {ret : Option FieldType} {fr lo : Nat} {w pc p1 tg : Nat} {off : Int} {a : Xp} {T F : Nat × Nat} (K : Ctx k own nm cc ret fr lo) (ha : SE k w pc a (p1, p1)) (hd : decode cc p1 = .ok (.ifnonnull off, 3)) (ht : (p1 : Int) + off = (tg : Int)) (hT : zxx T (p1 + 3)) (hF : zxx F (tg)) : SB k w pc (bNull a) T F := by
  intro L st μ t μ' h hw kt kf
  unfold bNull at h
  split at h
  case h_3 => cases h
  · rename_i μ1 h1
    cases h
    have g3 := go_ifnonnullN K hd ((kt rfl).at hT)
    exact ha _ _ _ _ _ h1 hw ⟨g3, g3⟩
  · rename_i x μ1 h1
    cases h
    have g3 := fun x9 : Nat => (go_ifnonnull K hd ht ((kf rfl).at hF) : Go k p1 L (.ref x9 :: st) μ')
    exact ha _ _ _ _ _ h1 hw ⟨g3 x, g3 x⟩
theorem b_null_p {k : Kt} {own nm : String} {cc : ByteArray} {ret : Option FieldType} {fr lo : Nat} {w pc p1 tg : Nat} {off : Int} {a : Xp} {T F : Nat × Nat} (K : Ctx k own nm cc ret fr lo) (ha : SE k w pc a (p1, p1)) (hd : decode cc p1 = .ok (.ifnull off, 3)) (ht : (p1 : Int) + off = (tg : Int)) (hT : zxx T (tg)) (hF : zxx F (p1 + 3)) : SB k w pc (bNull a) T F := by
  intro L st μ t μ' h hw kt kf
  unfold bNull at h
  split at h
  case h_3 => cases h
  · rename_i μ1 h1
    cases h
    have g3 := go_ifnullN K hd ht ((kt rfl).at hT)
    exact ha _ _ _ _ _ h1 hw ⟨g3, g3⟩
  · rename_i x μ1 h1
    cases h
    have g3 := fun x9 : Nat => (go_ifnull K hd ((kf rfl).at hF) : Go k p1 L (.ref x9 :: st) μ')
    exact ha _ _ _ _ _ h1 hw ⟨g3 x, g3 x⟩
theorem b_nnull_n {k : Kt} {own nm : String} {cc : ByteArray} {ret : Option FieldType} {fr lo : Nat} {w pc p1 tg : Nat} {off : Int} {a : Xp} {T F : Nat × Nat} (K : Ctx k own nm cc ret fr lo) (ha : SE k w pc a (p1, p1)) (hd : decode cc p1 = .ok (.ifnull off, 3)) (ht : (p1 : Int) + off = (tg : Int)) (hT : zxx T (p1 + 3)) (hF : zxx F (tg)) : SB k w pc (bNNull a) T F := by
  intro L st μ t μ' h hw kt kf
  unfold bNNull at h
  split at h
  case h_3 => cases h
  · rename_i μ1 h1
    cases h
    have g3 := go_ifnullN K hd ht ((kf rfl).at hF)
    exact ha _ _ _ _ _ h1 hw ⟨g3, g3⟩
  · rename_i x μ1 h1
    cases h
    have g3 := fun x9 : Nat => (go_ifnull K hd ((kt rfl).at hT) : Go k p1 L (.ref x9 :: st) μ')
    exact ha _ _ _ _ _ h1 hw ⟨g3 x, g3 x⟩
theorem b_nnull_p {k : Kt} {own nm : String} {cc : ByteArray} {ret : Option FieldType} {fr lo : Nat} {w pc p1 tg : Nat} {off : Int} {a : Xp} {T F : Nat × Nat} (K : Ctx k own nm cc ret fr lo) (ha : SE k w pc a (p1, p1)) (hd : decode cc p1 = .ok (.ifnonnull off, 3)) (ht : (p1 : Int) + off = (tg : Int)) (hT : zxx T (tg)) (hF : zxx F (p1 + 3)) : SB k w pc (bNNull a) T F := by
  intro L st μ t μ' h hw kt kf
  unfold bNNull at h
  split at h
  case h_3 => cases h
  · rename_i μ1 h1
    cases h
    have g3 := go_ifnonnullN K hd ((kf rfl).at hF)
    exact ha _ _ _ _ _ h1 hw ⟨g3, g3⟩
  · rename_i x μ1 h1
    cases h
    have g3 := fun x9 : Nat => (go_ifnonnull K hd ht ((kt rfl).at hT) : Go k p1 L (.ref x9 :: st) μ')
    exact ha _ _ _ _ _ h1 hw ⟨g3 x, g3 x⟩
def sRr (e : Xp) : Sp := fun L μ => match e L μ with
  | some (.ref v, μ1) => some (1, some (.ref v), L, μ1)
  | _ => none
def sOI : Sp := fun L μ => match L[0]? with
  | some (Value.ref _) => some (0, none, L, μ)
  | _ => none
theorem s_no {k : Kt} {pc : Nat} {N C B : Nat × Nat} : SS k pc sNo N C B := by
  intro L μ o v L' μ' h
  cases h
theorem s_skip {k : Kt} {pc : Nat} {N C B : Nat × Nat} (hN : zxx N pc) : SS k pc sSk N C B := by
  intro L μ o v L' μ' h kn kr kc kb
  cases h
  exact (kn rfl).at hN
theorem s_cont0 {k : Kt} {pc : Nat} {N C B : Nat × Nat} (hN : zxx C pc) : SS k pc sCo N C B := by
  intro L μ o v L' μ' h kn kr kc kb
  cases h
  exact (kc rfl).at hN
theorem s_brk0 {k : Kt} {pc : Nat} {N C B : Nat × Nat} (hN : zxx B pc) : SS k pc sBr N C B := by
  intro L μ o v L' μ' h kn kr kc kb
  cases h
  exact (kb rfl).at hN
theorem s_cont {k : Kt} {own nm : String} {cc : ByteArray} {ret : Option FieldType} {fr lo : Nat} {pc j : Nat} {off : Int} {N C B : Nat × Nat} (K : Ctx k own nm cc ret fr lo) (hd : decode cc pc = .ok (.goto off, 3)) (hN : zxx C j) (ht : (pc : Int) + off = (j : Int) := by decide) : SS k pc sCo N C B := by
  intro L μ o v L' μ' h kn kr kc kb
  cases h
  exact go_goto K hd ht ((kc rfl).at hN)
theorem s_brk {k : Kt} {own nm : String} {cc : ByteArray} {ret : Option FieldType} {fr lo : Nat} {pc j : Nat} {off : Int} {N C B : Nat × Nat} (K : Ctx k own nm cc ret fr lo) (hd : decode cc pc = .ok (.goto off, 3)) (hN : zxx B j) (ht : (pc : Int) + off = (j : Int) := by decide) : SS k pc sBr N C B := by
  intro L μ o v L' μ' h kn kr kc kb
  cases h
  exact go_goto K hd ht ((kb rfl).at hN)
theorem s_seq2 {k : Kt} {pc p1 p2 : Nat} {a b : Sp} {N C B : Nat × Nat} (ha : SS k pc a (p1, p2) C B) (hb : SS k p1 b N C B) (hb2 : SS k p2 b N C B) : SS k pc (sSq a b) N C B := by
  intro L μ o v L' μ' h kn kr kc kb
  unfold sSq at h
  split at h
  case h_2 => cases h
  rename_i o1 v1 L1 μ1 h1
  split at h
  · rename_i e
    subst e
    exact ha _ _ _ _ _ _ h1 (fun _ => ⟨hb _ _ _ _ _ _ h kn kr kc kb, hb2 _ _ _ _ _ _ h kn kr kc kb⟩) (fun e => by cases e) (fun e => by cases e) (fun e => by cases e)
  · rename_i e
    cases h
    exact ha _ _ _ _ _ _ h1 (fun e' => absurd e' e) kr kc kb
theorem s_seq {k : Kt} {pc p1 : Nat} {a b : Sp} {N C B : Nat × Nat} (ha : SS k pc a (p1, p1) C B) (hb : SS k p1 b N C B) : SS k pc (sSq a b) N C B := s_seq2 ha hb hb
theorem s_ifT {k : Kt} {pc pt px pf py : Nat} {b : Bp} {s u : Sp} {N C B : Nat × Nat} (hb : SB k 0 pc b (pt, px) (pf, py)) (hs : SS k pt s N C B) (hs2 : SS k px s N C B) (hu : SS k pf u N C B) (hu2 : SS k py u N C B) : SS k pc (sIf b s u) N C B := by
  intro L μ o v L' μ' h kn kr kc kb
  unfold sIf at h
  split at h
  case h_2 => cases h
  rename_i t μ1 h1
  refine hb _ _ _ _ _ h1 (Nat.le_refl _) (fun e => ?_) (fun e => ?_)
  · rw [if_pos e] at h
    exact ⟨hs _ _ _ _ _ _ h kn kr kc kb, hs2 _ _ _ _ _ _ h kn kr kc kb⟩
  · rw [if_neg (by rw [e]; decide)] at h
    exact ⟨hu _ _ _ _ _ _ h kn kr kc kb, hu2 _ _ _ _ _ _ h kn kr kc kb⟩
theorem s_if2 {k : Kt} {pc pt pf : Nat} {b : Bp} {s u : Sp} {N C B : Nat × Nat} (hb : SB k 0 pc b (pt, pt) (pf, pf)) (hs : SS k pt s N C B) (hu : SS k pf u N C B) : SS k pc (sIf b s u) N C B := s_ifT hb hs hs hu hu
theorem s_if {k : Kt} {pc pt : Nat} {b : Bp} {s : Sp} {N C B : Nat × Nat} (hb : SB k 0 pc b (pt, pt) N) (hs : SS k pt s N C B) : SS k pc (sIf b s sSk) N C B := s_ifT (pf := N.1) (py := N.2) hb hs hs (s_skip (Or.inl rfl)) (s_skip (Or.inr rfl))
theorem s_ifX {k : Kt} {pc pt px : Nat} {b : Bp} {s : Sp} {N C B : Nat × Nat} (hb : SB k 0 pc b (pt, px) N) (hs : SS k pt s N C B) (hs2 : SS k px s N C B) : SS k pc (sIf b s sSk) N C B := s_ifT (pf := N.1) (py := N.2) hb hs hs2 (s_skip (Or.inl rfl)) (s_skip (Or.inr rfl))
theorem s_ife {k : Kt} {own nm : String} {cc : ByteArray} {ret : Option FieldType} {fr lo : Nat} {pc pt pf pg j : Nat} {off : Int} {b : Bp} {s u : Sp} {N C B : Nat × Nat} (K : Ctx k own nm cc ret fr lo) (hb : SB k 0 pc b (pt, pt) (pf, pf)) (hs : SS k pt s (pg, j) C B) (hd : decode cc pg = .ok (.goto off, 3)) (hN : zxx N j) (hu : SS k pf u N C B) (ht : (pg : Int) + off = (j : Int) := by decide) : SS k pc (sIf b s u) N C B := by
  refine s_if2 hb ?_ hu
  intro L μ o v L' μ' h kn kr kc kb
  exact hs _ _ _ _ _ _ h (fun e => ⟨go_goto K hd ht ((kn e).at hN), (kn e).at hN⟩) kr kc kb
theorem s_istore {k : Kt} {own nm : String} {cc : ByteArray} {ret : Option FieldType} {fr lo : Nat} {pc p1 i : Nat}  {e : Xp} {N C B : Nat × Nat} (K : Ctx k own nm cc ret fr lo) (he : SE k 0 pc e (p1, p1)) (hd : decode cc p1 = .ok (.istore i, 2))  (hN : zxx N (p1 + 2)) : SS k pc (stI i e) N C B := by
  intro L μ o v L' μ' h kn kr kc kb
  unfold stI at h
  split at h
  case h_2 => cases h
  rename_i x μ1 h1
  split at h
  case h_2 => cases h
  rename_i L9 h2
  cases h
  have g := go_istore K hd  h2 ((kn rfl).at hN)
  exact he _ _ _ _ _ h1 (Nat.le_refl _) ⟨g, g⟩
theorem s_istore_n {k : Kt} {own nm : String} {cc : ByteArray} {ret : Option FieldType} {fr lo : Nat} {pc p1 i : Nat} {q : Fin 4} {e : Xp} {N C B : Nat × Nat} (K : Ctx k own nm cc ret fr lo) (he : SE k 0 pc e (p1, p1)) (hd : decode cc p1 = .ok (.istore_n q, 1)) (hq : (q : Nat) = i) (hN : zxx N (p1 + 1)) : SS k pc (stI i e) N C B := by
  intro L μ o v L' μ' h kn kr kc kb
  unfold stI at h
  split at h
  case h_2 => cases h
  rename_i x μ1 h1
  split at h
  case h_2 => cases h
  rename_i L9 h2
  cases h
  have g := go_istore_n K hd hq h2 ((kn rfl).at hN)
  exact he _ _ _ _ _ h1 (Nat.le_refl _) ⟨g, g⟩
theorem s_astore {k : Kt} {own nm : String} {cc : ByteArray} {ret : Option FieldType} {fr lo : Nat} {pc p1 i : Nat}  {e : Xp} {N C B : Nat × Nat} (K : Ctx k own nm cc ret fr lo) (he : SE k 0 pc e (p1, p1)) (hd : decode cc p1 = .ok (.astore i, 2))  (hN : zxx N (p1 + 2)) : SS k pc (stA i e) N C B := by
  intro L μ o v L' μ' h kn kr kc kb
  unfold stA at h
  split at h
  case h_2 => cases h
  rename_i x μ1 h1
  split at h
  case h_2 => cases h
  rename_i L9 h2
  cases h
  have g := go_astore K hd  h2 ((kn rfl).at hN)
  exact he _ _ _ _ _ h1 (Nat.le_refl _) ⟨g, g⟩
theorem s_astore_n {k : Kt} {own nm : String} {cc : ByteArray} {ret : Option FieldType} {fr lo : Nat} {pc p1 i : Nat} {q : Fin 4} {e : Xp} {N C B : Nat × Nat} (K : Ctx k own nm cc ret fr lo) (he : SE k 0 pc e (p1, p1)) (hd : decode cc p1 = .ok (.astore_n q, 1)) (hq : (q : Nat) = i) (hN : zxx N (p1 + 1)) : SS k pc (stA i e) N C B := by
  intro L μ o v L' μ' h kn kr kc kb
  unfold stA at h
  split at h
  case h_2 => cases h
  rename_i x μ1 h1
  split at h
  case h_2 => cases h
  rename_i L9 h2
  cases h
  have g := go_astore_n K hd hq h2 ((kn rfl).at hN)
  exact he _ _ _ _ _ h1 (Nat.le_refl _) ⟨g, g⟩
theorem s_lstore {k : Kt} {own nm : String} {cc : ByteArray} {ret : Option FieldType} {fr lo : Nat} {pc p1 i : Nat}  {e : Xp} {N C B : Nat × Nat} (K : Ctx k own nm cc ret fr lo) (he : SE k 0 pc e (p1, p1)) (hd : decode cc p1 = .ok (.lstore i, 2))  (hN : zxx N (p1 + 2)) : SS k pc (stJ i e) N C B := by
  intro L μ o v L' μ' h kn kr kc kb
  unfold stJ at h
  split at h
  case h_2 => cases h
  rename_i x μ1 h1
  split at h
  case h_2 => cases h
  rename_i L9 h2
  cases h
  have g := go_lstore K hd  h2 ((kn rfl).at hN)
  exact he _ _ _ _ _ h1 (Nat.le_refl _) ⟨g, g⟩
theorem s_lstore_n {k : Kt} {own nm : String} {cc : ByteArray} {ret : Option FieldType} {fr lo : Nat} {pc p1 i : Nat} {q : Fin 4} {e : Xp} {N C B : Nat × Nat} (K : Ctx k own nm cc ret fr lo) (he : SE k 0 pc e (p1, p1)) (hd : decode cc p1 = .ok (.lstore_n q, 1)) (hq : (q : Nat) = i) (hN : zxx N (p1 + 1)) : SS k pc (stJ i e) N C B := by
  intro L μ o v L' μ' h kn kr kc kb
  unfold stJ at h
  split at h
  case h_2 => cases h
  rename_i x μ1 h1
  split at h
  case h_2 => cases h
  rename_i L9 h2
  cases h
  have g := go_lstore_n K hd hq h2 ((kn rfl).at hN)
  exact he _ _ _ _ _ h1 (Nat.le_refl _) ⟨g, g⟩
theorem s_iinc {k : Kt} {own nm : String} {cc : ByteArray} {ret : Option FieldType} {fr lo : Nat} {pc i : Nat} {n : Int} {n' : Int32} {N C B : Nat × Nat} (K : Ctx k own nm cc ret fr lo) (hd : decode cc pc = .ok (.iinc i n, 3)) (hN : zxx N (pc + 3)) (hn : Int32.ofInt n = n' := by rfl) : SS k pc (inc i n') N C B := by
  intro L μ o v L' μ' h kn kr kc kb
  unfold inc at h
  split at h
  case h_2 => cases h
  rename_i x hx
  split at h
  case h_2 => cases h
  rename_i L9 h2
  cases h
  rw [← hn] at h2
  exact go_iinc K hd hx h2 ((kn rfl).at hN)
theorem s_pF {k : Kt} {own nm : String} {cc : ByteArray} {ret : Option FieldType} {fr lo : Nat} {pc p1 p2 idx c j : Nat} {a v : Xp} {N C B : Nat × Nat} (K : Ctx k own nm cc ret fr lo) (hR : PutRow own nm idx c j) (ha : SE k 0 pc a (p1, p1)) (hv : SE k 1 p1 v (p2, p2)) (hd : decode cc p2 = .ok (.putfield idx, 3)) (hN : zxx N (p2 + 3)) : SS k pc (pF c j a v) N C B := by
  intro L μ o v9 L' μ' h kn kr kc kb
  unfold pF at h
  split at h
  case h_2 => cases h
  rename_i q μ1 h1
  split at h
  case h_2 => cases h
  rename_i y μ2 h2
  split at h
  case isFalse => cases h
  rename_i hk
  cases h
  have hz := zfi_spec hk.2
  have g3 := hR K hd hk.1 hz.1 hz.2 ((kn rfl).at hN)
  have g2 := hv _ _ _ _ _ h2 (wt_1 (w := 0) rfl (Nat.le_refl _)) ⟨g3, g3⟩
  exact ha _ _ _ _ _ h1 (Nat.le_refl _) ⟨g2, g2⟩
theorem s_aS {k : Kt} {own nm : String} {cc : ByteArray} {ret : Option FieldType} {fr lo : Nat} {pc p1 p2 p3 t : Nat} {ins : Instr} {a i v : Xp} {N C B : Nat × Nat} (K : Ctx k own nm cc ret fr lo) (hR : ASRow t ins) (ha : SE k 0 pc a (p1, p1)) (hi : SE k 1 p1 i (p2, p2)) (hv : SE k 2 p2 v (p3, p3)) (hd : decode cc p3 = .ok (ins, 1)) (hN : zxx N (p3 + 1)) : SS k pc (aS t a i v) N C B := by
  intro L μ o v9 L' μ' h kn kr kc kb
  unfold aS at h
  split at h
  case h_2 => cases h
  rename_i q μ1 h1
  split at h
  case h_2 => cases h
  rename_i x μ2 h2
  split at h
  case h_2 => cases h
  rename_i y μ3 h3
  split at h
  case isFalse => cases h
  rename_i hk
  split at h
  case h_2 => cases h
  rename_i z hz
  cases h
  have g4 := hR K hd hk.1 hk.2 hz ((kn rfl).at hN)
  have g3 := hv _ _ _ _ _ h3 (wt_1 (w := 1) rfl (wt_1 (w := 0) rfl (Nat.le_refl _))) ⟨g4, g4⟩
  have g2 := hi _ _ _ _ _ h2 (wt_1 (w := 0) rfl (Nat.le_refl _)) ⟨g3, g3⟩
  exact ha _ _ _ _ _ h1 (Nat.le_refl _) ⟨g2, g2⟩
theorem s_exv {k : Kt} {own nm : String} {cc : ByteArray} {ret : Option FieldType} {fr lo : Nat} {pc p1 : Nat} {ins : Instr} {F : Fn} {es : List (Nat × Xp)} {N C B : Nat × Nat} (K : Ctx k own nm cc ret fr lo) (hR : IRow own nm ins F fr lo) (hs : SL k 0 pc es p1) (hd : decode cc p1 = .ok (ins, 3)) (hN : zxx N (p1 + 3)) : SS k pc (exv F es) N C B := by
  intro L μ o v9 L' μ' h kn kr kc kb
  unfold exv at h
  split at h
  case h_2 => cases h
  rename_i As μ1 h1
  split at h
  case h_2 => cases h
  rename_i μ2 h2
  cases h
  have g := hR (st := []) K hd h2 (by decide) ((kn rfl).at hN)
  exact hs _ [] _ _ _ h1 (Nat.le_refl _) g
theorem s_exs {k : Kt} {own nm : String} {cc : ByteArray} {ret : Option FieldType} {fr lo : Nat} {pc p1 : Nat} {e : Xp} {N C B : Nat × Nat} (K : Ctx k own nm cc ret fr lo) (he : SE k 0 pc e (p1, p1)) (hd : decode cc p1 = .ok (.pop, 1)) (hN : zxx N (p1 + 1)) : SS k pc (exs e) N C B := by
  intro L μ o v9 L' μ' h kn kr kc kb
  unfold exs at h
  split at h
  case h_2 => cases h
  rename_i v μ1 h1
  split at h
  case isFalse => cases h
  rename_i hk
  cases h
  have g := go_pop K hd hk ((kn rfl).at hN)
  exact he _ _ _ _ _ h1 (Nat.le_refl _) ⟨g, g⟩
theorem s_retv {k : Kt} {own nm : String} {cc : ByteArray} {fr lo : Nat} {pc : Nat} {N C B : Nat × Nat} (K : Ctx k own nm cc none fr lo) (hd : decode cc pc = .ok (.return_, 1)) : SS k pc sRv N C B := by
  intro L μ o v9 L' μ' h kn kr kc kb
  cases h
  exact go_return (st := []) K hd (kr rfl)
theorem s_ireturn {k : Kt} {own nm : String} {cc : ByteArray} {fr lo : Nat} {ty : FieldType} {pc p1 : Nat} {e : Xp} {N C B : Nat × Nat} (K : Ctx k own nm cc (some ty) fr lo) (he : SE k 0 pc e (p1, p1)) (hd : decode cc p1 = .ok (.ireturn, 1)) (hty : ty = .int ∨ ty = .boolean := by decide) : SS k pc (sRe ty e) N C B := by
  intro L μ o v9 L' μ' h kn kr kc kb
  unfold sRe at h
  split at h
  case h_2 => cases h
  rename_i v μ1 h1
  split at h
  case isFalse => cases h
  rename_i hz
  cases h
  obtain ⟨x, rfl⟩ : ∃ x, v = .int x := by
    rcases hty with rfl | rfl <;> cases v <;> first | exact ⟨_, rfl⟩ | cases hz
  have g := go_ireturn (L := L) (st := []) K (zfi_spec hz).1 hd (kr rfl)
  exact he _ _ _ _ _ h1 (Nat.le_refl _) ⟨g, g⟩
theorem s_lreturn {k : Kt} {own nm : String} {cc : ByteArray} {fr lo : Nat} {pc p1 : Nat} {e : Xp} {N C B : Nat × Nat} (K : Ctx k own nm cc (some .long) fr lo) (he : SE k 0 pc e (p1, p1)) (hd : decode cc p1 = .ok (.lreturn, 1)) : SS k pc (sRe .long e) N C B := by
  intro L μ o v9 L' μ' h kn kr kc kb
  unfold sRe at h
  split at h
  case h_2 => cases h
  rename_i v μ1 h1
  split at h
  case isFalse => cases h
  rename_i hz
  cases h
  obtain ⟨x, rfl⟩ : ∃ x, v = .long x := by cases v <;> first | exact ⟨_, rfl⟩ | cases hz
  have g := go_lreturn (L := L) (st := []) K hd (kr rfl)
  exact he _ _ _ _ _ h1 (Nat.le_refl _) ⟨g, g⟩
theorem s_areturn {k : Kt} {own nm D : String} {cc : ByteArray} {fr lo : Nat} {pc p1 : Nat} {e : Xp} {N C B : Nat × Nat} (K : Ctx k own nm cc (some (.object D)) fr lo) (he : SE k 0 pc e (p1, p1)) (hd : decode cc p1 = .ok (.areturn, 1)) : SS k pc (sRr e) N C B := by
  intro L μ o v9 L' μ' h kn kr kc kb
  unfold sRr at h
  split at h
  case h_2 => cases h
  rename_i v μ1 h1
  cases h
  have g := go_areturn (L := L) (st := []) K hd (kr rfl)
  exact he _ _ _ _ _ h1 (Nat.le_refl _) ⟨g, g⟩
def o_iadd (x y : Int32) : Int32 := x + y
theorem s_fO_iadd {k : Kt} {own nm : String} {cc : ByteArray} {ret : Option FieldType} {fr lo : Nat} {pc p1 p4 i1 c j : Nat} {a v : Xp} {N C B : Nat × Nat} (K : Ctx k own nm cc ret fr lo) (hG : GetRow own i1 c j) (hP : PutRow own nm i1 c j) (ha : SE k 0 pc a (p1, p1)) (hd1 : decode cc p1 = .ok (.dup, 1)) (hd2 : decode cc (p1 + 1) = .ok (.getfield i1, 3)) (hv : SE k 2 (p1 + 1 + 3) v (p4, p4)) (hd4 : decode cc p4 = .ok (.iadd, 1)) (hd5 : decode cc (p4 + 1) = .ok (.putfield i1, 3)) (hN : zxx N (p4 + 1 + 3)) : SS k pc (fO c j o_iadd a v) N C B := by
  intro L μ o v9 L' μ' h kn kr kc kb
  unfold fO at h
  split at h
  case h_2 => cases h
  rename_i q μ1 h1
  split at h
  case isFalse => cases h
  rename_i hk
  split at h
  case h_2 => cases h
  rename_i x hx
  split at h
  case h_2 => cases h
  rename_i y μ2 h2
  split at h
  case isFalse => cases h
  rename_i hk2
  cases h
  have hz := zfi_spec hk2.2
  have g5 := hP K hd5 hk2.1 hz.1 hz.2 ((kn rfl).at hN)
  have g4 := go_iadd K hd4 g5
  have g3 := hv _ _ _ _ _ h2 (wt_1 (w := 1) rfl (wt_1 (w := 0) rfl (Nat.le_refl _))) ⟨g4, g4⟩
  rw [← hx] at g3
  have g2 := hG K hd2 hk g3
  have g1 := go_dup K hd1 rfl g2
  exact ha _ _ _ _ _ h1 (Nat.le_refl _) ⟨g1, g1⟩
def o_isub (x y : Int32) : Int32 := x - y
theorem s_fO_isub {k : Kt} {own nm : String} {cc : ByteArray} {ret : Option FieldType} {fr lo : Nat} {pc p1 p4 i1 c j : Nat} {a v : Xp} {N C B : Nat × Nat} (K : Ctx k own nm cc ret fr lo) (hG : GetRow own i1 c j) (hP : PutRow own nm i1 c j) (ha : SE k 0 pc a (p1, p1)) (hd1 : decode cc p1 = .ok (.dup, 1)) (hd2 : decode cc (p1 + 1) = .ok (.getfield i1, 3)) (hv : SE k 2 (p1 + 1 + 3) v (p4, p4)) (hd4 : decode cc p4 = .ok (.isub, 1)) (hd5 : decode cc (p4 + 1) = .ok (.putfield i1, 3)) (hN : zxx N (p4 + 1 + 3)) : SS k pc (fO c j o_isub a v) N C B := by
  intro L μ o v9 L' μ' h kn kr kc kb
  unfold fO at h
  split at h
  case h_2 => cases h
  rename_i q μ1 h1
  split at h
  case isFalse => cases h
  rename_i hk
  split at h
  case h_2 => cases h
  rename_i x hx
  split at h
  case h_2 => cases h
  rename_i y μ2 h2
  split at h
  case isFalse => cases h
  rename_i hk2
  cases h
  have hz := zfi_spec hk2.2
  have g5 := hP K hd5 hk2.1 hz.1 hz.2 ((kn rfl).at hN)
  have g4 := go_isub K hd4 g5
  have g3 := hv _ _ _ _ _ h2 (wt_1 (w := 1) rfl (wt_1 (w := 0) rfl (Nat.le_refl _))) ⟨g4, g4⟩
  rw [← hx] at g3
  have g2 := hG K hd2 hk g3
  have g1 := go_dup K hd1 rfl g2
  exact ha _ _ _ _ _ h1 (Nat.le_refl _) ⟨g1, g1⟩
def o_imul (x y : Int32) : Int32 := x * y
theorem s_fO_imul {k : Kt} {own nm : String} {cc : ByteArray} {ret : Option FieldType} {fr lo : Nat} {pc p1 p4 i1 c j : Nat} {a v : Xp} {N C B : Nat × Nat} (K : Ctx k own nm cc ret fr lo) (hG : GetRow own i1 c j) (hP : PutRow own nm i1 c j) (ha : SE k 0 pc a (p1, p1)) (hd1 : decode cc p1 = .ok (.dup, 1)) (hd2 : decode cc (p1 + 1) = .ok (.getfield i1, 3)) (hv : SE k 2 (p1 + 1 + 3) v (p4, p4)) (hd4 : decode cc p4 = .ok (.imul, 1)) (hd5 : decode cc (p4 + 1) = .ok (.putfield i1, 3)) (hN : zxx N (p4 + 1 + 3)) : SS k pc (fO c j o_imul a v) N C B := by
  intro L μ o v9 L' μ' h kn kr kc kb
  unfold fO at h
  split at h
  case h_2 => cases h
  rename_i q μ1 h1
  split at h
  case isFalse => cases h
  rename_i hk
  split at h
  case h_2 => cases h
  rename_i x hx
  split at h
  case h_2 => cases h
  rename_i y μ2 h2
  split at h
  case isFalse => cases h
  rename_i hk2
  cases h
  have hz := zfi_spec hk2.2
  have g5 := hP K hd5 hk2.1 hz.1 hz.2 ((kn rfl).at hN)
  have g4 := go_imul K hd4 g5
  have g3 := hv _ _ _ _ _ h2 (wt_1 (w := 1) rfl (wt_1 (w := 0) rfl (Nat.le_refl _))) ⟨g4, g4⟩
  rw [← hx] at g3
  have g2 := hG K hd2 hk g3
  have g1 := go_dup K hd1 rfl g2
  exact ha _ _ _ _ _ h1 (Nat.le_refl _) ⟨g1, g1⟩
def o_iand (x y : Int32) : Int32 := x &&& y
theorem s_fO_iand {k : Kt} {own nm : String} {cc : ByteArray} {ret : Option FieldType} {fr lo : Nat} {pc p1 p4 i1 c j : Nat} {a v : Xp} {N C B : Nat × Nat} (K : Ctx k own nm cc ret fr lo) (hG : GetRow own i1 c j) (hP : PutRow own nm i1 c j) (ha : SE k 0 pc a (p1, p1)) (hd1 : decode cc p1 = .ok (.dup, 1)) (hd2 : decode cc (p1 + 1) = .ok (.getfield i1, 3)) (hv : SE k 2 (p1 + 1 + 3) v (p4, p4)) (hd4 : decode cc p4 = .ok (.iand, 1)) (hd5 : decode cc (p4 + 1) = .ok (.putfield i1, 3)) (hN : zxx N (p4 + 1 + 3)) : SS k pc (fO c j o_iand a v) N C B := by
  intro L μ o v9 L' μ' h kn kr kc kb
  unfold fO at h
  split at h
  case h_2 => cases h
  rename_i q μ1 h1
  split at h
  case isFalse => cases h
  rename_i hk
  split at h
  case h_2 => cases h
  rename_i x hx
  split at h
  case h_2 => cases h
  rename_i y μ2 h2
  split at h
  case isFalse => cases h
  rename_i hk2
  cases h
  have hz := zfi_spec hk2.2
  have g5 := hP K hd5 hk2.1 hz.1 hz.2 ((kn rfl).at hN)
  have g4 := go_iand K hd4 g5
  have g3 := hv _ _ _ _ _ h2 (wt_1 (w := 1) rfl (wt_1 (w := 0) rfl (Nat.le_refl _))) ⟨g4, g4⟩
  rw [← hx] at g3
  have g2 := hG K hd2 hk g3
  have g1 := go_dup K hd1 rfl g2
  exact ha _ _ _ _ _ h1 (Nat.le_refl _) ⟨g1, g1⟩
def o_ior (x y : Int32) : Int32 := x ||| y
theorem s_fO_ior {k : Kt} {own nm : String} {cc : ByteArray} {ret : Option FieldType} {fr lo : Nat} {pc p1 p4 i1 c j : Nat} {a v : Xp} {N C B : Nat × Nat} (K : Ctx k own nm cc ret fr lo) (hG : GetRow own i1 c j) (hP : PutRow own nm i1 c j) (ha : SE k 0 pc a (p1, p1)) (hd1 : decode cc p1 = .ok (.dup, 1)) (hd2 : decode cc (p1 + 1) = .ok (.getfield i1, 3)) (hv : SE k 2 (p1 + 1 + 3) v (p4, p4)) (hd4 : decode cc p4 = .ok (.ior, 1)) (hd5 : decode cc (p4 + 1) = .ok (.putfield i1, 3)) (hN : zxx N (p4 + 1 + 3)) : SS k pc (fO c j o_ior a v) N C B := by
  intro L μ o v9 L' μ' h kn kr kc kb
  unfold fO at h
  split at h
  case h_2 => cases h
  rename_i q μ1 h1
  split at h
  case isFalse => cases h
  rename_i hk
  split at h
  case h_2 => cases h
  rename_i x hx
  split at h
  case h_2 => cases h
  rename_i y μ2 h2
  split at h
  case isFalse => cases h
  rename_i hk2
  cases h
  have hz := zfi_spec hk2.2
  have g5 := hP K hd5 hk2.1 hz.1 hz.2 ((kn rfl).at hN)
  have g4 := go_ior K hd4 g5
  have g3 := hv _ _ _ _ _ h2 (wt_1 (w := 1) rfl (wt_1 (w := 0) rfl (Nat.le_refl _))) ⟨g4, g4⟩
  rw [← hx] at g3
  have g2 := hG K hd2 hk g3
  have g1 := go_dup K hd1 rfl g2
  exact ha _ _ _ _ _ h1 (Nat.le_refl _) ⟨g1, g1⟩
theorem s_aO_iadd {k : Kt} {own nm : String} {cc : ByteArray} {ret : Option FieldType} {fr lo : Nat} {pc p1 p2 p5 : Nat} {a i v : Xp} {N C B : Nat × Nat} (K : Ctx k own nm cc ret fr lo) (ha : SE k 0 pc a (p1, p1)) (hi : SE k 1 p1 i (p2, p2)) (hd2 : decode cc p2 = .ok (.dup2, 1)) (hd3 : decode cc (p2 + 1) = .ok (.iaload, 1)) (hv : SE k 3 (p2 + 1 + 1) v (p5, p5)) (hd5 : decode cc p5 = .ok (.iadd, 1)) (hd6 : decode cc (p5 + 1) = .ok (.iastore, 1)) (hN : zxx N (p5 + 1 + 1)) : SS k pc (aOI o_iadd a i v) N C B := by
  intro L μ o v9 L' μ' h kn kr kc kb
  unfold aOI at h
  split at h
  case h_2 => cases h
  rename_i q μ1 h1
  split at h
  case h_2 => cases h
  rename_i x μ2 h2
  split at h
  case isFalse => cases h
  rename_i hk
  split at h
  case h_2 => cases h
  rename_i z hz
  split at h
  case h_2 => cases h
  rename_i y μ3 h3
  split at h
  case isFalse => cases h
  rename_i hk2
  cases h
  have g6 := ast_0 (v := .int (o_iadd z y)) K hd6 hk2.1 hk2.2 rfl ((kn rfl).at hN)
  have g5 := go_iadd K hd5 g6
  have g4 := hv _ _ _ _ _ h3 (wt_1 (w := 2) rfl (wt_1 (w := 1) rfl (wt_1 (w := 0) rfl (Nat.le_refl _)))) ⟨g5, g5⟩
  rw [← hz] at g4
  have g3 := ald_0 K hd3 hk.1 hk.2 g4
  have g2' := go_dup2 K hd2 rfl rfl g3
  have g2 := hi _ _ _ _ _ h2 (wt_1 (w := 0) rfl (Nat.le_refl _)) ⟨g2', g2'⟩
  exact ha _ _ _ _ _ h1 (Nat.le_refl _) ⟨g2, g2⟩
theorem s_aO_ior {k : Kt} {own nm : String} {cc : ByteArray} {ret : Option FieldType} {fr lo : Nat} {pc p1 p2 p5 : Nat} {a i v : Xp} {N C B : Nat × Nat} (K : Ctx k own nm cc ret fr lo) (ha : SE k 0 pc a (p1, p1)) (hi : SE k 1 p1 i (p2, p2)) (hd2 : decode cc p2 = .ok (.dup2, 1)) (hd3 : decode cc (p2 + 1) = .ok (.iaload, 1)) (hv : SE k 3 (p2 + 1 + 1) v (p5, p5)) (hd5 : decode cc p5 = .ok (.ior, 1)) (hd6 : decode cc (p5 + 1) = .ok (.iastore, 1)) (hN : zxx N (p5 + 1 + 1)) : SS k pc (aOI o_ior a i v) N C B := by
  intro L μ o v9 L' μ' h kn kr kc kb
  unfold aOI at h
  split at h
  case h_2 => cases h
  rename_i q μ1 h1
  split at h
  case h_2 => cases h
  rename_i x μ2 h2
  split at h
  case isFalse => cases h
  rename_i hk
  split at h
  case h_2 => cases h
  rename_i z hz
  split at h
  case h_2 => cases h
  rename_i y μ3 h3
  split at h
  case isFalse => cases h
  rename_i hk2
  cases h
  have g6 := ast_0 (v := .int (o_ior z y)) K hd6 hk2.1 hk2.2 rfl ((kn rfl).at hN)
  have g5 := go_ior K hd5 g6
  have g4 := hv _ _ _ _ _ h3 (wt_1 (w := 2) rfl (wt_1 (w := 1) rfl (wt_1 (w := 0) rfl (Nat.le_refl _)))) ⟨g5, g5⟩
  rw [← hz] at g4
  have g3 := ald_0 K hd3 hk.1 hk.2 g4
  have g2' := go_dup2 K hd2 rfl rfl g3
  have g2 := hi _ _ _ _ _ h2 (wt_1 (w := 0) rfl (Nat.le_refl _)) ⟨g2', g2'⟩
  exact ha _ _ _ _ _ h1 (Nat.le_refl _) ⟨g2, g2⟩
def o_ladd (x y : Int64) : Int64 := x + y
theorem s_aO_ladd {k : Kt} {own nm : String} {cc : ByteArray} {ret : Option FieldType} {fr lo : Nat} {pc p1 p2 p5 : Nat} {a i v : Xp} {N C B : Nat × Nat} (K : Ctx k own nm cc ret fr lo) (ha : SE k 0 pc a (p1, p1)) (hi : SE k 1 p1 i (p2, p2)) (hd2 : decode cc p2 = .ok (.dup2, 1)) (hd3 : decode cc (p2 + 1) = .ok (.laload, 1)) (hv : SE k 4 (p2 + 1 + 1) v (p5, p5)) (hd5 : decode cc p5 = .ok (.ladd, 1)) (hd6 : decode cc (p5 + 1) = .ok (.lastore, 1)) (hN : zxx N (p5 + 1 + 1)) : SS k pc (aOJ o_ladd a i v) N C B := by
  intro L μ o v9 L' μ' h kn kr kc kb
  unfold aOJ at h
  split at h
  case h_2 => cases h
  rename_i q μ1 h1
  split at h
  case h_2 => cases h
  rename_i x μ2 h2
  split at h
  case isFalse => cases h
  rename_i hk
  split at h
  case h_2 => cases h
  rename_i z hz
  split at h
  case h_2 => cases h
  rename_i y μ3 h3
  split at h
  case isFalse => cases h
  rename_i hk2
  cases h
  have g6 := ast_1 (v := .long (o_ladd z y)) K hd6 hk2.1 hk2.2 rfl ((kn rfl).at hN)
  have g5 := go_ladd K hd5 g6
  have g4 := hv _ _ _ _ _ h3 (wt_2 (w := 2) rfl (wt_1 (w := 1) rfl (wt_1 (w := 0) rfl (Nat.le_refl _)))) ⟨g5, g5⟩
  rw [← hz] at g4
  have g3 := ald_1 K hd3 hk.1 hk.2 g4
  have g2' := go_dup2 K hd2 rfl rfl g3
  have g2 := hi _ _ _ _ _ h2 (wt_1 (w := 0) rfl (Nat.le_refl _)) ⟨g2', g2'⟩
  exact ha _ _ _ _ _ h1 (Nat.le_refl _) ⟨g2, g2⟩
theorem s_whG {k : Kt} {own nm : String} {cc : ByteArray} {ret : Option FieldType} {fr lo : Nat} {pc pb pu px pg : Nat} {off : Int} {b : Bp} {s u : Sp} {N C B : Nat × Nat} (K : Ctx k own nm cc ret fr lo) (hb : SB k 0 pc b (pb, pb) N) (hs : SS k pb s (pu, px) (pu, px) N) (hu : ∀ (L : List Value) (μ : Mm) (o : Nat) (v : Option Value) (L' : List Value) (μ' : Mm), u L μ = some (o, v, L', μ') → o = 0 → Go k pc L' [] μ' → GoP k (pu, px) L [] μ) : ∀ n, SS k pc (whF b s u n) N C B := by
  intro n
  induction n with
  | zero =>
    intro L μ o v L' μ' h
    cases h
  | succ n ih =>
    intro L μ o v L' μ' h kn kr kc kb
    unfold whF at h
    split at h
    case h_1 => cases h
    rename_i t μ1 h1
    refine hb _ _ _ _ _ h1 (Nat.le_refl _) (fun e => ?_) (fun e => ?_)
    · rw [if_pos e] at h
      split at h
      case h_1 => cases h
      rename_i o2 v2 L2 μ2 h2
      have key : Go k pb L [] μ1 := by
        split at h
        · rename_i e2
          cases h
          exact hs _ _ _ _ _ _ h2 (fun z => by omega) (fun _ => kr rfl) (fun z => by omega) (fun z => by omega)
        · split at h
          · rename_i e2
            cases h
            exact hs _ _ _ _ _ _ h2 (fun z => by omega) (fun z => by omega) (fun z => by omega) (fun _ => kn rfl)
          · split at h
            · rename_i e2
              split at h
              case h_1 => cases h
              rename_i o3 v3 L3 μ3 h3
              split at h
              case isFalse => cases h
              rename_i e3
              have g := hu _ _ _ _ _ _ h3 e3 (ih _ _ _ _ _ _ h kn kr kc kb)
              exact hs _ _ _ _ _ _ h2 (fun _ => g) (fun z => by omega) (fun _ => g) (fun z => by omega)
            · cases h
      exact ⟨key, key⟩
    · rw [if_neg (by rw [e]; decide)] at h
      cases h
      exact kn rfl
theorem s_wh {k : Kt} {own nm : String} {cc : ByteArray} {ret : Option FieldType} {fr lo : Nat} {pc pb pu pg : Nat} {off : Int} {b : Bp} {s u : Sp} {N C B : Nat × Nat} (K : Ctx k own nm cc ret fr lo) (hb : SB k 0 pc b (pb, pb) N) (hs : SS k pb s (pu, pu) (pu, pu) N) (hu : SS k pu u (pg, pg) (pg, pg) N) (hd : decode cc pg = .ok (.goto off, 3)) (ht : (pg : Int) + off = (pc : Int) := by decide) : SS k pc (wh b s u) N C B := by
  refine s_whG (pg := pg) (off := off) (px := pu) K hb hs (fun L μ o v L' μ' h e kk => ?_) zfuel
  subst e
  have g0 := go_goto K hd ht kk
  have g := hu _ _ _ _ _ _ h (fun _ => ⟨g0, g0⟩) (fun z => by cases z) (fun z => by cases z) (fun z => by cases z)
  exact ⟨g, g⟩
theorem s_wh0 {k : Kt} {own nm : String} {cc : ByteArray} {ret : Option FieldType} {fr lo : Nat} {pc pb pu : Nat} {off : Int} {b : Bp} {s : Sp} {N C B : Nat × Nat} (K : Ctx k own nm cc ret fr lo) (hb : SB k 0 pc b (pb, pb) N) (hs : SS k pb s (pu, pc) (pu, pc) N) (hd : decode cc pu = .ok (.goto off, 3)) (ht : (pu : Int) + off = (pc : Int) := by decide) : SS k pc (wh b s sSk) N C B := by
  refine s_whG (pg := pu) (off := off) (px := pc) K hb hs (fun L μ o v L' μ' h e kk => ?_) zfuel
  cases h
  exact ⟨go_goto K hd ht kk, kk⟩
theorem s_whd {k : Kt} {own nm : String} {cc : ByteArray} {ret : Option FieldType} {fr lo : Nat} {pc pb : Nat} {b : Bp} {s : Sp} {N C B : Nat × Nat} (K : Ctx k own nm cc ret fr lo) (hb : SB k 0 pc b (pb, pb) N) (hs : SS k pb s (pc, pc) (pc, pc) N) : SS k pc (wh b s sSk) N C B := by
  refine s_whG (pg := 0) (off := 0) (px := pc) (pu := pc) K hb hs (fun L μ o v L' μ' h e kk => ?_) zfuel
  cases h
  exact ⟨kk, kk⟩
def SWL (k : Kt) (p1 : Nat) (offs : List Int) (cs : List Sp) (N C : Nat × Nat) : Prop := ∀ (i : Nat) (s : Sp), cs[i]? = some s → ∃ (off : Int) (tg : Nat), offs[i]? = some off ∧ (p1 : Int) + off = (tg : Int) ∧ SS k tg s N C N
theorem sw_nil {k : Kt} {p1 : Nat} {N C : Nat × Nat} : SWL k p1 [] [] N C := fun i s h => by cases h
theorem sw_cons {k : Kt} {p1 pt : Nat} {off : Int} {offs : List Int} {s : Sp} {cs : List Sp} {N C : Nat × Nat} (hs : SS k pt s N C N) (hr : SWL k p1 offs cs N C) (ht : (p1 : Int) + off = (pt : Int) := by decide) : SWL k p1 (off :: offs) (s :: cs) N C := by
  intro i s' h
  cases i with
  | zero =>
    cases h
    exact ⟨off, pt, rfl, ht, hs⟩
  | succ i => exact hr i s' h
theorem swO_spec {r : Option (Nat × Option Value × List Value × Mm)} {o : Nat} {v : Option Value} {L : List Value} {μ : Mm} (h : swO r = some (o, v, L, μ)) : (∃ v', r = some (3, v', L, μ) ∧ o = 0) ∨ (r = some (o, v, L, μ) ∧ ¬ o = 3) := by
  unfold swO at h
  split at h
  case h_2 => cases h
  split at h
  · rename_i e
    subst e
    cases h
    exact Or.inl ⟨_, rfl, rfl⟩
  · rename_i e
    cases h
    exact Or.inr ⟨rfl, e⟩
theorem SS.sw {k : Kt} {pc : Nat} {s : Sp} {N C : Nat × Nat} (hs : SS k pc s N C N) {L L' : List Value} {μ μ' : Mm} {o : Nat} {v : Option Value} (h : swO (s L μ) = some (o, v, L', μ')) (kn : o = 0 → GoP k N L' [] μ') (kr : o = 1 → Rt k v μ') (kc : o = 2 → GoP k C L' [] μ') : Go k pc L [] μ := by
  rcases swO_spec h with ⟨v', h1, rfl⟩ | ⟨h1, h2⟩
  · exact hs _ _ _ _ _ _ h1 (fun z => by omega) (fun z => by omega) (fun z => by omega) (fun _ => kn rfl)
  · exact hs _ _ _ _ _ _ h1 kn kr kc (fun z => absurd z h2)
theorem s_sw {k : Kt} {own nm : String} {cc : ByteArray} {ret : Option FieldType} {fr lo : Nat} {pc p1 pd len : Nat} {dflt lo9 hi9 : Int} {offs : List Int} {e : Xp} {cs : List Sp} {d : Sp} {N C B : Nat × Nat} (K : Ctx k own nm cc ret fr lo) (he : SE k 0 pc e (p1, p1)) (hd : decode cc p1 = .ok (.tableswitch dflt lo9 hi9 (List.toArray offs), len)) (hL : SWL k p1 offs cs N C) (ht : (p1 : Int) + dflt = (pd : Int)) (hlen : lo9 + (cs.length : Int) = hi9 + 1) (hdf : SS k pd d N C N) : SS k pc (sw e lo9 cs d) N C B := by
  intro L μ o v9 L' μ' h kn kr kc kb
  unfold sw at h
  split at h
  case h_2 => cases h
  rename_i x μ1 h1
  have key : Go k p1 L [.int x] μ1 := by
    split at h
    · rename_i hlt
      exact go_tableOut K hd (Or.inl hlt) ht (hdf.sw h kn kr kc)
    · rename_i hge
      split at h
      · rename_i s hs
        obtain ⟨off, tg, ho, htg, hss⟩ := hL _ _ hs
        have hl : (x.toInt - lo9).toNat < cs.length := (List.getElem?_eq_some_iff.mp hs).1
        exact go_tableIn K hd hge (by omega) (by rw [List.getElem?_toArray]; exact ho) htg (hss.sw h kn kr kc)
      · rename_i hs
        have hl : cs.length ≤ (x.toInt - lo9).toNat := List.getElem?_eq_none_iff.mp hs
        exact go_tableOut K hd (Or.inr (by omega)) ht (hdf.sw h kn kr kc)
  exact he _ _ _ _ _ h1 (Nat.le_refl _) ⟨key, key⟩
theorem s_objInit {k : Kt} {own nm : String} {cc : ByteArray} {ret : Option FieldType} {fr lo : Nat} {pc idx : Nat} {N C B : Nat × Nat} {q : Fin 4} (K : Ctx k own nm cc ret fr lo) (hd0 : decode cc pc = .ok (.aload_n q, 1)) (hq : Cond.methodLink own idx objectInit ∈ lw_all) (hd : decode cc (pc + 1) = .ok (.invokespecial idx, 3)) (hN : zxx N (pc + 1 + 3)) (hq0 : (q : Nat) = 0 := by rfl) (hfr : 1 ≤ fr := by decide) (hlo : 12 ≤ lo := by decide) : SS k pc sOI N C B := by
  intro L μ o v9 L' μ' h kn kr kc kb
  unfold sOI at h
  split at h
  case h_2 => cases h
  rename_i x hx
  cases h
  exact go_aload_n K hd0 hq0 hx (go_objInit K hq hd hfr hlo rfl ((kn rfl).at hN))
def hasK (c : Nat) (μ : Mm) : List Value → Bool
  | .ref b :: _ => kd μ b == c
  | _ => false
theorem hasK_spec {c : Nat} {μ : Mm} {As : List Value} (h : hasK c μ As = true) : ∃ b as, As = .ref b :: as ∧ kd μ b = c := by
  unfold hasK at h
  split at h
  · rename_i b as
    exact ⟨b, as, rfl, by simpa using h⟩
  · cases h
/-- arguments laid into locals -/
def zex : List Value → List Value
  | [] => []
  | v :: vs => if v.category = 2 then v :: .null :: zex vs else v :: zex vs
def zlo (nL : Nat) (As : List Value) : List Value := zex As ++ List.replicate (nL - (zex As).length) .null
/-- a method: its class (its number + 1; 0: static), how many arguments, its locals, its body -/
def mth (c n nL : Nat) (body : Sp) : Fn := fun As μ => if As.length = n ∧ (zex As).length ≤ nL ∧ (c = 0 ∨ hasK c μ As = true) then (match body (zlo nL As) μ with
  | some (o, v, _, μ') => if o = 1 ∧ nx μ ≤ nx μ' ∧ sn μ ≤ sn μ' then some (v, μ') else none
  | none => none) else none
theorem zex_len (As : List Value) : (zex As).length = (lg_sl As).length := by
  induction As with
  | nil => rfl
  | cons v vs ih =>
    unfold zex lg_sl
    rw [List.flatMap_cons]
    split <;> simp [lg_sl, ih]
theorem zex_mem (As : List Value) : ∀ (b i : Nat) (v : Value), (zex As)[i]? = some v → v ≠ .null → (b + i, v) ∈ lv_args b As := by
  induction As with
  | nil => intro b i v h; cases h
  | cons a as ih =>
    intro b i v h hv
    unfold zex at h
    unfold lv_args
    split at h
    · rename_i hc
      rw [if_pos hc]
      match i, h with
      | 0, h => cases h; exact List.mem_cons_self
      | 1, h => cases h; exact absurd rfl hv
      | i + 2, h => 
        have h2 := ih (b + 2) i v h hv
        rw [show b + (i + 2) = b + 2 + i by omega]
        exact List.mem_cons_of_mem _ h2
    · rename_i hc
      rw [if_neg hc]
      match i, h with
      | 0, h => cases h; exact List.mem_cons_self
      | i + 1, h => 
        have h2 := ih (b + 1) i v h hv
        rw [show b + (i + 1) = b + 1 + i by omega]
        exact List.mem_cons_of_mem _ h2
theorem zlo_LK {nL : Nat} {As : List Value} (h : (zex As).length ≤ nL) : LK ((lg_sl As ++ List.replicate (nL - (lg_sl As).length) Slot.unset).toArray) nL (zlo nL As) := by
  have h' : (lg_sl As).length ≤ nL := by rw [← zex_len]; exact h
  have he := lv_entry As (n := nL) h'
  refine ⟨?_, he.1, he.2.1, fun i v hi hv => ?_⟩
  · unfold zlo
    rw [List.length_append, List.length_replicate]
    omega
  · unfold zlo at hi
    rw [List.getElem?_append] at hi
    split at hi
    · have := zex_mem As 0 i v hi hv
      rw [Nat.zero_add] at this
      exact he.2.2 (i, v) this
    · rw [List.getElem?_replicate] at hi
      split at hi
      · cases hi
        exact absurd rfl hv
      · cases hi
theorem mth_spec {c n nL : Nat} {body : Sp} {As : List Value} {μ μ' : Mm} {r : Option Value} (h : mth c n nL body As μ = some (r, μ')) : As.length = n ∧ (zex As).length ≤ nL ∧ (c = 0 ∨ hasK c μ As = true) ∧ (nx μ ≤ nx μ' ∧ sn μ ≤ sn μ') ∧ ∃ L', body (zlo nL As) μ = some (1, r, L', μ') := by
  unfold mth at h
  split at h
  case isFalse => cases h
  rename_i h0
  split at h
  case h_2 => cases h
  rename_i o v L' μ1 h1
  split at h
  case isFalse => cases h
  rename_i h2
  cases h
  obtain ⟨rfl, h2⟩ := h2
  exact ⟨h0.1, h0.2.1, h0.2.2, h2, L', h1⟩
theorem mth_len {c n nL : Nat} {body : Sp} : ∀ As μ r, mth c n nL body As μ = some r → As.length = n := fun As μ r h => (mth_spec (r := r.1) (μ' := r.2) h).1
theorem mth_recv {c n nL : Nat} {body : Sp} : ∀ As μ r, mth (c + 1) (n + 1) nL body As μ = some r → ∃ b as, As = .ref b :: as ∧ as.length = n ∧ kd μ b = c + 1 := by
  intro As μ r h
  obtain ⟨h1, -, h3, -⟩ := mth_spec (r := r.1) (μ' := r.2) h
  rcases h3 with h3 | h3
  · cases h3
  · obtain ⟨b, as, rfl, hk⟩ := hasK_spec h3
    exact ⟨b, as, rfl, by simpa using h1, hk⟩
theorem mth_recv0 {c n nL : Nat} {body : Sp} : ∀ As μ r, mth (c + 1) (n + 1) nL body As μ = some r → ∃ b as, As = .ref b :: as ∧ as.length = n := by
  intro As μ r h
  obtain ⟨b, as, h1, h2, -⟩ := mth_recv As μ r h
  exact ⟨b, as, h1, h2⟩
theorem met_of {y : MethodName} {bytes : ByteArray} {c n nL fr lo : Nat} {ret : Option FieldType} {body : Sp} (hy : plainName y.cls = true) (seg : ∀ k, Ctx k y.cls y.name bytes ret fr lo → SS k 0 body (0, 0) (0, 0) (0, 0)) : MetF y bytes nL ret fr lo (mth c n nL body) := by
  intro l Z As μ μ' r hF
  obtain ⟨h1, h2, -, h4, L', h5⟩ := mth_spec hF
  refine ⟨h4, Met.ofW (cc := bytes) (maxL := nL) (ret := ret) hy rfl ?_⟩
  intro p e s m args below meth cd s1 B hml hv
  obtain ⟨rfl, hH, hsz, hKK, hKS⟩ := hv
  have hts0 := atoms_spec (ws := ws_ y bytes nL ret) B.pre
  have hts : ∀ w ∈ lw_all, w.before _ s = true := fun w h => hts0 w (List.mem_cons_of_mem _ h)
  have hown : s.vm.findClass y.cls = some m.cls := findClass_of_methodNamed B.named
  have key := seg (p, l, e, (headSpec (ws_ y bytes nL ret) ({ frames := fr, cells := nx μ' - nx μ, slots := sn μ' - sn μ, locals := lo } : Room)).room, s, m, As.toArray, below, meth, cd, MQ below (zQc Z r μ') As.toArray s (nx μ' - nx μ) (sn μ' - sn μ) (fun q => zB Z ≤ q), Z, nx μ, sn μ, nx μ', sn μ')
    ⟨B.exec, B.bytes, hown, hts, hKK, hKS, B.notSynchronized, (name_of_methodNamed B.named B.method).1, B.returns, rfl, rfl, rfl, rfl⟩ _ _ _ _ _ _ h5 (fun z => by cases z) (fun _ => ⟨Nat.le_refl _, Nat.le_refl _, rfl⟩) (fun z => by cases z) (fun z => by cases z)
  rw [lg_entry_eq]
  have g := key.2 s.heap [] _ hH ⟨hsz, fun _ _ => rfl, (fun _ h => by cases h), by rw [hsz]; exact Nat.le_refl _⟩ (Nat.le_refl _) (Nat.le_refl _) (by rw [hml]; exact zlo_LK h2)
  rw [Nat.sub_self, Nat.sub_self] at g
  exact g
