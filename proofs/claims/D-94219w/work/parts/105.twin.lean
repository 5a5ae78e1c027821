set_option maxRecDepth 100000
/-! the twin's state: its int fields, its long fields, its arrays of ints (bytes, truths), its arrays of longs, by the numbers of the fields -/
def tk : Nat → Nat := fun j => match j with
  | 0 => 102
  | 1 => 0
  | 2 => 0
  | 3 => 0
  | 4 => 0
  | 5 => 1
  | 6 => 0
  | 7 => 101
  | 8 => 100
  | 9 => 0
  | 10 => 101
  | 11 => 100
  | 12 => 100
  | 13 => 100
  | 14 => 100
  | 15 => 0
  | 16 => 0
  | 17 => 0
  | 18 => 100
  | 19 => 0
  | 20 => 0
  | 21 => 100
  | 22 => 0
  | 23 => 100
  | 24 => 100
  | 25 => 100
  | 26 => 100
  | 27 => 0
  | 28 => 100
  | 29 => 0
  | 30 => 0
  | 31 => 0
  | 32 => 0
  | 33 => 100
  | 34 => 0
  | 35 => 0
  | 36 => 100
  | 37 => 0
  | 38 => 100
  | 39 => 1
  | 40 => 0
  | 41 => 100
  | 42 => 100
  | 43 => 100
  | 44 => 100
  | 45 => 103
  | 46 => 100
  | 47 => 100
  | 48 => 100
  | 49 => 100
  | 50 => 100
  | 51 => 100
  | 52 => 100
  | 53 => 100
  | 54 => 100
  | 55 => 101
  | 56 => 0
  | 57 => 103
  | 58 => 100
  | 59 => 103
  | 60 => 100
  | 61 => 101
  | 62 => 101
  | _ => 999999
def to : Nat → Nat := fun j => match j with
  | 0 => 1
  | 7 => 2
  | 8 => 3
  | 10 => 4
  | 11 => 5
  | 12 => 6
  | 13 => 7
  | 14 => 8
  | 18 => 9
  | 21 => 10
  | 23 => 11
  | 24 => 12
  | 25 => 13
  | 26 => 14
  | 28 => 15
  | 33 => 16
  | 36 => 17
  | 38 => 18
  | 41 => 19
  | 42 => 20
  | 43 => 21
  | 44 => 22
  | 45 => 23
  | 46 => 24
  | 47 => 25
  | 48 => 26
  | 49 => 27
  | 50 => 28
  | 51 => 29
  | 52 => 30
  | 53 => 31
  | 54 => 32
  | 55 => 33
  | 57 => 34
  | 58 => 35
  | 59 => 36
  | 60 => 37
  | 61 => 38
  | 62 => 39
  | _ => 999999
def tl : Nat → Nat := fun j => match j with
  | 0 => 500
  | 7 => 10
  | 8 => 20
  | 10 => 3
  | 11 => 3
  | 12 => 60
  | 13 => 10
  | 14 => 10
  | 18 => 24
  | 21 => 20
  | 23 => 3
  | 24 => 60
  | 25 => 10
  | 26 => 10
  | 28 => 24
  | 33 => 3
  | 36 => 120
  | 38 => 160
  | 41 => 8
  | 42 => 8
  | 43 => 20
  | 44 => 20
  | 45 => 3
  | 46 => 3
  | 47 => 3
  | 48 => 3
  | 49 => 9
  | 50 => 3
  | 51 => 3
  | 52 => 360
  | 53 => 3
  | 54 => 480
  | 55 => 3
  | 57 => 1024
  | 58 => 1024
  | 59 => 1024
  | 60 => 204800
  | 61 => 1024
  | 62 => 1024
  | _ => 999999

abbrev Tt : Type := (Nat → Int32) × (Nat → Int64) × (Nat → Nat → Int32) × (Nat → Nat → Int64)
/-- the memory holds the twin at M -/
def TV (τ : Tt) (M : Nat) (μ : Mm) : Prop := kd μ M = 5 ∧ (∀ j, tk j = 0 → fd μ 4 j M = .int (τ.1 j)) ∧ (∀ j, tk j = 1 → fd μ 4 j M = .long (τ.2.1 j)) ∧ (∀ j t, tk j = 100 + t → t < 4 → fd μ 4 j M = .ref (M + to j) ∧ kd μ (M + to j) = 100 + t ∧ ln μ (M + to j) = tl j) ∧ (∀ j t, tk j = 100 + t → t < 4 → t ≠ 1 → ∀ i, ar μ t (M + to j) i = .int (τ.2.2.1 j i)) ∧ (∀ j, tk j = 101 → ∀ i, ar μ 1 (M + to j) i = .long (τ.2.2.2 j i))
theorem tvI {τ : Tt} {M : Nat} {μ : Mm} (h : TV τ M μ) (j : Nat) (hj : tk j = 0) : fd μ 4 j M = .int (τ.1 j) := h.2.1 j hj
theorem tvJ {τ : Tt} {M : Nat} {μ : Mm} (h : TV τ M μ) (j : Nat) (hj : tk j = 1) : fd μ 4 j M = .long (τ.2.1 j) := h.2.2.1 j hj
theorem tvR {τ : Tt} {M : Nat} {μ : Mm} (h : TV τ M μ) (j : Nat) (hj : (decide (100 ≤ tk j) && decide (tk j < 104)) = true) : fd μ 4 j M = .ref (M + to j) := by
  simp only [Bool.and_eq_true, decide_eq_true_eq] at hj
  exact (h.2.2.2.1 j (tk j - 100) (by omega) (by omega)).1
theorem tvK {τ : Tt} {M : Nat} {μ : Mm} (h : TV τ M μ) (j : Nat) (hj : (decide (100 ≤ tk j) && decide (tk j < 104)) = true) : kd μ (M + to j) = tk j := by
  simp only [Bool.and_eq_true, decide_eq_true_eq] at hj
  rw [(h.2.2.2.1 j (tk j - 100) (by omega) (by omega)).2.1]
  omega
theorem tvL {τ : Tt} {M : Nat} {μ : Mm} (h : TV τ M μ) (j : Nat) (hj : (decide (100 ≤ tk j) && decide (tk j < 104)) = true) : ln μ (M + to j) = tl j := by
  simp only [Bool.and_eq_true, decide_eq_true_eq] at hj
  exact (h.2.2.2.1 j (tk j - 100) (by omega) (by omega)).2.2
theorem tvA {τ : Tt} {M : Nat} {μ : Mm} (h : TV τ M μ) (j : Nat) {t : Nat} (hj : tk j = 100 + t) (ht : t < 4 ∧ t ≠ 1) (i : Nat) : ar μ t (M + to j) i = .int (τ.2.2.1 j i) := h.2.2.2.2.1 j t hj ht.1 ht.2 i
theorem tvB {τ : Tt} {M : Nat} {μ : Mm} (h : TV τ M μ) (j : Nat) (hj : tk j = 101) (i : Nat) : ar μ 1 (M + to j) i = .long (τ.2.2.2 j i) := h.2.2.2.2.2 j hj i
/-! the tongue: (things, people, follows, month), (worth, hours, leans, nears), stays, clear, after, (what follows, of what) -/
abbrev Tg : Type := (Nat × Nat × Nat × Nat) × ((Nat → Nat) × (Nat → Nat) × (Nat → Nat) × (Nat → Nat)) × (Nat → Nat) × (Nat → Nat → Nat) × (Nat → Nat → Nat) × (Nat → Nat) × (Nat → Nat)
def gn (g : Tg) : Nat := g.1.1
def gm (g : Tg) : Nat := g.1.2.1
def gk (g : Tg) : Nat := g.1.2.2.1
def gmo (g : Tg) : Nat := g.1.2.2.2
def gwo (g : Tg) : Nat → Nat := g.2.1.1
def gho (g : Tg) : Nat → Nat := g.2.1.2.1
def gle (g : Tg) : Nat → Nat := g.2.1.2.2.1
def gne (g : Tg) : Nat → Nat := g.2.1.2.2.2
def gst (g : Tg) : Nat → Nat := g.2.2.1
def gcl (g : Tg) : Nat → Nat → Nat := g.2.2.2.1
def gaf (g : Tg) : Nat → Nat → Nat := g.2.2.2.2.1
def gft (g : Tg) : Nat → Nat := g.2.2.2.2.2.1
def gfo (g : Tg) : Nat → Nat := g.2.2.2.2.2.2
/-- what a tongue keeps to -/
def WG (g : Tg) : Prop := gn g ≤ 10 ∧ gm g ≤ 3 ∧ gk g ≤ 12 ∧ gmo g ≤ 40 ∧ (∀ t, gwo g t ≤ 99) ∧ (∀ t, gho g t ≤ 9 ∧ (t < gn g → 1 ≤ gho g t)) ∧ (∀ t, gle g t < 2 ^ gn g) ∧ (∀ t, gne g t < 2 ^ gn g) ∧ (∀ p, gst g p ≤ 16) ∧ (∀ p t, gcl g p t ≤ 16 ∧ gaf g p t ≤ 20) ∧ (∀ i, i < gk g → gft g i < gn g ∧ gfo g i < 2 ^ gn g ∧ gfo g i ≠ 0) ∧ (0 < gn g → 9 ≤ gmo g)
/-- the twin holds the tongue -/
def GT (g : Tg) (τ : Tt) : Prop := τ.1 20 = nI (gn g) ∧ τ.1 22 = nI (gm g) ∧ τ.1 27 = nI (gk g) ∧ τ.1 29 = nI (gmo g) ∧ (∀ t, t < gn g → τ.2.2.1 21 (2 * t) = nI (gwo g t) ∧ τ.2.2.1 21 (2 * t + 1) = nI (gho g t) ∧ τ.2.2.1 25 t = nI (gle g t) ∧ τ.2.2.1 26 t = nI (gne g t)) ∧ (∀ p, p < gm g → τ.2.2.1 23 p = nI (gst g p)) ∧ (∀ p t, p < gm g → t < gn g → τ.2.2.1 24 (2 * (10 * p + t)) = nI (gcl g p t) ∧ τ.2.2.1 24 (2 * (10 * p + t) + 1) = nI (gaf g p t)) ∧ (∀ i, i < gk g → τ.2.2.1 28 (2 * i) = nI (gft g i) ∧ τ.2.2.1 28 (2 * i + 1) = nI (gfo g i))
/-! what follows -/
def stp (g : Tg) (nv : Int32) (i h : Nat) : Nat := if gfo g i &&& h = gfo g i ∧ ¬ nI (gft g i) = nv then h ||| 2 ^ gft g i else h
def pas (g : Tg) (nv : Int32) (h : Nat) : Nat := itn (stp g nv) (gk g) h
def clo (g : Tg) (nv : Int32) (h : Nat) : Nat := itn (fun _ h => pas g nv h) (gn g) h
theorem itn_inv {α : Type} {f : Nat → α → α} (P : α → Prop) : ∀ (n : Nat) (a : α), P a → (∀ i a, i < n → P a → P (f i a)) → P (itn f n a) := by
  intro n
  induction n with
  | zero => intro a h _; exact h
  | succ n ih => intro a h hs; exact hs n _ (Nat.lt_succ_self n) (ih a h fun i a hi => hs i a (by omega))
theorem pow_le10 {n : Nat} (h : n ≤ 10) : 2 ^ n ≤ 1024 := Nat.le_trans (Nat.pow_le_pow_right (by omega) h) (by decide)
theorem stp_lt {g : Tg} (w : WG g) {nv : Int32} {i h : Nat} (hi : i < gk g) (hh : h < 2 ^ gn g) : stp g nv i h < 2 ^ gn g := by
  unfold stp
  split
  · exact Nat.or_lt_two_pow hh (Nat.pow_lt_pow_right (by omega) (w.2.2.2.2.2.2.2.2.2.2.1 i hi).1)
  · exact hh
theorem pas_lt {g : Tg} (w : WG g) {nv : Int32} {h : Nat} (hh : h < 2 ^ gn g) : pas g nv h < 2 ^ gn g :=
  itn_inv (fun h => h < 2 ^ gn g) _ _ hh fun _ _ hi ha => stp_lt w hi ha
theorem clo_lt {g : Tg} (w : WG g) {nv : Int32} {h : Nat} (hh : h < 2 ^ gn g) : clo g nv h < 2 ^ gn g :=
  itn_inv (fun h => h < 2 ^ gn g) _ _ hh fun _ _ _ ha => pas_lt w ha
theorem FX4_withFollows_eq {g : Tg} {τ : Tt} {M : Nat} {μ : Mm} (hT : TV τ M μ) (hG : GT g τ) (w : WG g) {h : Nat} (hh : h < 2 ^ gn g) (nv : Int32) :
    FX4_withFollows [.ref M, .int (nI h), .int nv] μ = some (some (.int (nI (clo g nv h))), μ) := by
  have h10 := pow_le10 w.1
  have hn := w.1
  have hk := w.2.2.1
  refine FW_eq (FW_mth ⟨rfl, by simp [zex, Value.category], by simp [hasK, hT.1]⟩ ?_)
  simp [BX4_withFollows, SW_sSq, SW_sIf, SW_sSk, SW_sRv, SW_sCo, SW_sBr, SW_stI, SW_stA, SW_stJ, SW_inc, SW_pF, SW_fO, SW_aS, SW_aOI, SW_aOJ, SW_exs, SW_sRe, SW_sRr, SW_exv, BW_v, ite_mm, ite_vi, ite_vj, ite_and, ite_or, stI, stA, stJ, aL, aN, gF, vA, vI, vJ, cI, cJ, cN, iadd, isub, imul, idiv, irem, iand, ior, ixor, ishl, ishr, iushr, opI, ladd, lsub, lmul, land, lor, ldiv, lrem, opJ, lshl, i2l, l2i, i2b, bA, bO, bN, bI, bJ, bX, bNull, bNNull, sRe, sRr, oB_v, cnd, inc, icall, evs, exs, pF, aS, fO, aOI, aOJ, stl1, stl2, zlo, zex, rEq, rNe, rLt, rLe, rGt, rGe, rEqJ, rNeJ, rLtJ, rLeJ, rGtJ, rGeJ, bi_zfi, bi_ne, bi_1, bi_0, zfi_int, zfi_long, Value.category]
  refine SW_fun (gn g) (fun _ h => pas g nv h) (fun i a L μ' => μ = μ' ∧ a < 2 ^ gn g ∧ ∃ j1 j2 : Value, j1.category = 1 ∧ j2.category = 1 ∧ L = [.ref M, .int (nI h), .int nv, .int (nI a), .int (nI i), j1, j2]) (a := h) (by omega) ⟨rfl, hh, .null, .null, rfl, rfl, rfl⟩ ?_ ?_ ?_
  · rintro i a L _ hi ⟨rfl, ha, j1, j2, hj1, hj2, rfl⟩
    have e := nI_ltI (a := i) (b := gn g) (by omega) (by omega)
    simp [SW_sSq, SW_sIf, SW_sSk, SW_sRv, SW_sCo, SW_sBr, SW_stI, SW_stA, SW_stJ, SW_inc, SW_pF, SW_fO, SW_aS, SW_aOI, SW_aOJ, SW_exs, SW_sRe, SW_sRr, SW_exv, BW_v, ite_mm, ite_vi, ite_vj, ite_and, ite_or, stI, stA, stJ, aL, aN, gF, vA, vI, vJ, cI, cJ, cN, iadd, isub, imul, idiv, irem, iand, ior, ixor, ishl, ishr, iushr, opI, ladd, lsub, lmul, land, lor, ldiv, lrem, opJ, lshl, i2l, l2i, i2b, bA, bO, bN, bI, bJ, bX, bNull, bNNull, sRe, sRr, oB_v, cnd, inc, icall, evs, exs, pF, aS, fO, aOI, aOJ, stl1, stl2, zlo, zex, rEq, rNe, rLt, rLe, rGt, rGe, rEqJ, rNeJ, rLtJ, rLeJ, rGtJ, rGeJ, bi_zfi, bi_ne, bi_1, bi_0, zfi_int, zfi_long, Value.category, hT.1, tvI hT 20 rfl, hG.1, e, hi, hj1, hj2]
    refine SW_fun (gk g) (stp g nv) (fun k a L μ' => μ = μ' ∧ a < 2 ^ gn g ∧ ∃ j2 : Value, j2.category = 1 ∧ L = [.ref M, .int (nI h), .int nv, .int (nI a), .int (nI i), .int (nI k), j2]) (a := a) (by omega) ⟨rfl, ha, j2, hj2, rfl⟩ ?_ ?_ ?_
    · rintro k a L _ hk' ⟨rfl, ha, j2, hj2, rfl⟩
      have e := nI_ltI (a := k) (b := gk g) (by omega) (by omega)
      obtain ⟨q1, q2⟩ := hG.2.2.2.2.2.2.2 k hk'
      obtain ⟨q3, q4, -⟩ := w.2.2.2.2.2.2.2.2.2.2.1 k hk'
      have ha' := stp_lt w (nv := nv) hk' ha
      have e1 : (2 : Int32) * nI k = nI (2 * k) := pk_mul 2 k
      have e2 : nI (2 * k) + 1 = nI (2 * k + 1) := nI_1 _
      have e3 : (nI (2 * k + 1)).toNatClampNeg = 2 * k + 1 := nI_clamp (by omega)
      have e4 : (nI (2 * k)).toNatClampNeg = 2 * k := nI_clamp (by omega)
      have e5 : zin (nI (2 * k)) (tl 28) = true := zin_nI (by show _ < 24; omega) (by decide)
      have e6 : zin (nI (2 * k + 1)) (tl 28) = true := zin_nI (by show _ < 24; omega) (by decide)
      have e7 : nI (gfo g k &&& a) = nI (gfo g k) ↔ gfo g k &&& a = gfo g k := nI_eq (by have := Nat.and_le_left (n := gfo g k) (m := a); omega) (by omega)
      have e8 := n_shl (gft g k) (by omega)
      by_cases c : gfo g k &&& a = gfo g k ∧ ¬ nI (gft g k) = nv
      · simp [SW_sSq, SW_sIf, SW_sSk, SW_sRv, SW_sCo, SW_sBr, SW_stI, SW_stA, SW_stJ, SW_inc, SW_pF, SW_fO, SW_aS, SW_aOI, SW_aOJ, SW_exs, SW_sRe, SW_sRr, SW_exv, BW_v, ite_mm, ite_vi, ite_vj, ite_and, ite_or, stI, stA, stJ, aL, aN, gF, vA, vI, vJ, cI, cJ, cN, iadd, isub, imul, idiv, irem, iand, ior, ixor, ishl, ishr, iushr, opI, ladd, lsub, lmul, land, lor, ldiv, lrem, opJ, lshl, i2l, l2i, i2b, bA, bO, bN, bI, bJ, bX, bNull, bNNull, sRe, sRr, oB_v, cnd, inc, icall, evs, exs, pF, aS, fO, aOI, aOJ, stl1, stl2, zlo, zex, rEq, rNe, rLt, rLe, rGt, rGe, rEqJ, rNeJ, rLtJ, rLeJ, rGtJ, rGeJ, bi_zfi, bi_ne, bi_1, bi_0, zfi_int, zfi_long, Value.category, hT.1, tvI hT 27 rfl, tvR hT 28 rfl, tvK hT 28 rfl, tvL hT 28 rfl, tvA hT 28 (t := 0) rfl (by decide), hG.2.2.1, e, hk', q1, q2, e1, e2, e3, e4, e5, e6, tk, n_and, e7, e8, c, n_or, hj2, nI_1]
        refine ⟨ha', ?_⟩
        unfold stp
        rw [if_pos c]
      · simp [SW_sSq, SW_sIf, SW_sSk, SW_sRv, SW_sCo, SW_sBr, SW_stI, SW_stA, SW_stJ, SW_inc, SW_pF, SW_fO, SW_aS, SW_aOI, SW_aOJ, SW_exs, SW_sRe, SW_sRr, SW_exv, BW_v, ite_mm, ite_vi, ite_vj, ite_and, ite_or, stI, stA, stJ, aL, aN, gF, vA, vI, vJ, cI, cJ, cN, iadd, isub, imul, idiv, irem, iand, ior, ixor, ishl, ishr, iushr, opI, ladd, lsub, lmul, land, lor, ldiv, lrem, opJ, lshl, i2l, l2i, i2b, bA, bO, bN, bI, bJ, bX, bNull, bNNull, sRe, sRr, oB_v, cnd, inc, icall, evs, exs, pF, aS, fO, aOI, aOJ, stl1, stl2, zlo, zex, rEq, rNe, rLt, rLe, rGt, rGe, rEqJ, rNeJ, rLtJ, rLeJ, rGtJ, rGeJ, bi_zfi, bi_ne, bi_1, bi_0, zfi_int, zfi_long, Value.category, hT.1, tvI hT 27 rfl, tvR hT 28 rfl, tvK hT 28 rfl, tvL hT 28 rfl, tvA hT 28 (t := 0) rfl (by decide), hG.2.2.1, e, hk', q1, q2, e1, e2, e3, e4, e5, e6, tk, n_and, e7, e8, n_or, hj2, nI_1]
        rw [if_neg c]
        unfold stp
        rw [if_neg c]
        exact ⟨ha, rfl⟩
    · rintro a L _ ⟨rfl, ha, j2, hj2, rfl⟩
      simp [SW_sSq, SW_sIf, SW_sSk, SW_sRv, SW_sCo, SW_sBr, SW_stI, SW_stA, SW_stJ, SW_inc, SW_pF, SW_fO, SW_aS, SW_aOI, SW_aOJ, SW_exs, SW_sRe, SW_sRr, SW_exv, BW_v, ite_mm, ite_vi, ite_vj, ite_and, ite_or, stI, stA, stJ, aL, aN, gF, vA, vI, vJ, cI, cJ, cN, iadd, isub, imul, idiv, irem, iand, ior, ixor, ishl, ishr, iushr, opI, ladd, lsub, lmul, land, lor, ldiv, lrem, opJ, lshl, i2l, l2i, i2b, bA, bO, bN, bI, bJ, bX, bNull, bNNull, sRe, sRr, oB_v, cnd, inc, icall, evs, exs, pF, aS, fO, aOI, aOJ, stl1, stl2, zlo, zex, rEq, rNe, rLt, rLe, rGt, rGe, rEqJ, rNeJ, rLtJ, rLeJ, rGtJ, rGeJ, bi_zfi, bi_ne, bi_1, bi_0, zfi_int, zfi_long, Value.category, hT.1, tvI hT 27 rfl, hG.2.2.1, nI_nlt]
    · rintro L _ ⟨rfl, ha, j2, hj2, rfl⟩
      simp [SW_sSq, SW_sIf, SW_sSk, SW_sRv, SW_sCo, SW_sBr, SW_stI, SW_stA, SW_stJ, SW_inc, SW_pF, SW_fO, SW_aS, SW_aOI, SW_aOJ, SW_exs, SW_sRe, SW_sRr, SW_exv, BW_v, ite_mm, ite_vi, ite_vj, ite_and, ite_or, stI, stA, stJ, aL, aN, gF, vA, vI, vJ, cI, cJ, cN, iadd, isub, imul, idiv, irem, iand, ior, ixor, ishl, ishr, iushr, opI, ladd, lsub, lmul, land, lor, ldiv, lrem, opJ, lshl, i2l, l2i, i2b, bA, bO, bN, bI, bJ, bX, bNull, bNNull, sRe, sRr, oB_v, cnd, inc, icall, evs, exs, pF, aS, fO, aOI, aOJ, stl1, stl2, zlo, zex, rEq, rNe, rLt, rLe, rGt, rGe, rEqJ, rNeJ, rLtJ, rLeJ, rGtJ, rGeJ, bi_zfi, bi_ne, bi_1, bi_0, zfi_int, zfi_long, Value.category, nI_1]
      exact ⟨ha, _, rfl, _, hj2, rfl, rfl, rfl⟩
  · rintro a L _ ⟨rfl, ha, j1, j2, hj1, hj2, rfl⟩
    simp [SW_sSq, SW_sIf, SW_sSk, SW_sRv, SW_sCo, SW_sBr, SW_stI, SW_stA, SW_stJ, SW_inc, SW_pF, SW_fO, SW_aS, SW_aOI, SW_aOJ, SW_exs, SW_sRe, SW_sRr, SW_exv, BW_v, ite_mm, ite_vi, ite_vj, ite_and, ite_or, stI, stA, stJ, aL, aN, gF, vA, vI, vJ, cI, cJ, cN, iadd, isub, imul, idiv, irem, iand, ior, ixor, ishl, ishr, iushr, opI, ladd, lsub, lmul, land, lor, ldiv, lrem, opJ, lshl, i2l, l2i, i2b, bA, bO, bN, bI, bJ, bX, bNull, bNNull, sRe, sRr, oB_v, cnd, inc, icall, evs, exs, pF, aS, fO, aOI, aOJ, stl1, stl2, zlo, zex, rEq, rNe, rLt, rLe, rGt, rGe, rEqJ, rNeJ, rLtJ, rLeJ, rGtJ, rGeJ, bi_zfi, bi_ne, bi_1, bi_0, zfi_int, zfi_long, Value.category, hT.1, tvI hT 20 rfl, hG.1, nI_nlt]
  · rintro L _ ⟨rfl, ha, j1, j2, hj1, hj2, rfl⟩
    simp [SW_sSq, SW_sIf, SW_sSk, SW_sRv, SW_sCo, SW_sBr, SW_stI, SW_stA, SW_stJ, SW_inc, SW_pF, SW_fO, SW_aS, SW_aOI, SW_aOJ, SW_exs, SW_sRe, SW_sRr, SW_exv, BW_v, ite_mm, ite_vi, ite_vj, ite_and, ite_or, stI, stA, stJ, aL, aN, gF, vA, vI, vJ, cI, cJ, cN, iadd, isub, imul, idiv, irem, iand, ior, ixor, ishl, ishr, iushr, opI, ladd, lsub, lmul, land, lor, ldiv, lrem, opJ, lshl, i2l, l2i, i2b, bA, bO, bN, bI, bJ, bX, bNull, bNNull, sRe, sRr, oB_v, cnd, inc, icall, evs, exs, pF, aS, fO, aOI, aOJ, stl1, stl2, zlo, zex, rEq, rNe, rLt, rLe, rGt, rGe, rEqJ, rNeJ, rLtJ, rLeJ, rGtJ, rGeJ, bi_zfi, bi_ne, bi_1, bi_0, zfi_int, zfi_long, Value.category]
    rfl
theorem FX4_has_eq (μ : Mm) {h t : Nat} (hh : h < 2 ^ 31) (ht : t < 31) : FX4_has [.int (nI h), .int (nI t)] μ = some (some (.int (bi (h.testBit t))), μ) := by
  refine FW_eq (FW_mth ⟨rfl, by simp [zex, Value.category], Or.inl rfl⟩ ?_)
  have e := n_bit h t hh ht
  have e1 : (bi (h.testBit t) = 1) ↔ h.testBit t = true := by cases h.testBit t <;> decide
  simp [BX4_has, SW_sSq, SW_sIf, SW_sSk, SW_sRv, SW_sCo, SW_sBr, SW_stI, SW_stA, SW_stJ, SW_inc, SW_pF, SW_fO, SW_aS, SW_aOI, SW_aOJ, SW_exs, SW_sRe, SW_sRr, SW_exv, BW_v, ite_mm, ite_vi, ite_vj, ite_and, ite_or, stI, stA, stJ, aL, aN, gF, vA, vI, vJ, cI, cJ, cN, iadd, isub, imul, idiv, irem, iand, ior, ixor, ishl, ishr, iushr, opI, ladd, lsub, lmul, land, lor, ldiv, lrem, opJ, lshl, i2l, l2i, i2b, bA, bO, bN, bI, bJ, bX, bNull, bNNull, sRe, sRr, oB_v, cnd, inc, icall, evs, exs, pF, aS, fO, aOI, aOJ, stl1, stl2, zlo, zex, rEq, rNe, rLt, rLe, rGt, rGe, rEqJ, rNeJ, rLtJ, rLeJ, rGtJ, rGeJ, bi_zfi, bi_ne, bi_1, bi_0, zfi_int, zfi_long, Value.category, e, e1]
theorem FX4_in_eq (μ : Mm) (x lo hi : Int32) : FX4_in [.int x, .int lo, .int hi] μ = some (some (.int (bi (decide (lo ≤ x ∧ x ≤ hi)))), μ) := by
  refine FW_eq (FW_mth ⟨rfl, by simp [zex, Value.category], Or.inl rfl⟩ ?_)
  simp [BX4_in, SW_sSq, SW_sIf, SW_sSk, SW_sRv, SW_sCo, SW_sBr, SW_stI, SW_stA, SW_stJ, SW_inc, SW_pF, SW_fO, SW_aS, SW_aOI, SW_aOJ, SW_exs, SW_sRe, SW_sRr, SW_exv, BW_v, ite_mm, ite_vi, ite_vj, ite_and, ite_or, stI, stA, stJ, aL, aN, gF, vA, vI, vJ, cI, cJ, cN, iadd, isub, imul, idiv, irem, iand, ior, ixor, ishl, ishr, iushr, opI, ladd, lsub, lmul, land, lor, ldiv, lrem, opJ, lshl, i2l, l2i, i2b, bA, bO, bN, bI, bJ, bX, bNull, bNNull, sRe, sRr, oB_v, cnd, inc, icall, evs, exs, pF, aS, fO, aOI, aOJ, stl1, stl2, zlo, zex, rEq, rNe, rLt, rLe, rGt, rGe, rEqJ, rNeJ, rLtJ, rLeJ, rGtJ, rGeJ, bi_zfi, bi_ne, bi_1, bi_0, zfi_int, zfi_long, Value.category]
theorem FX4_worth_eq {g : Tg} {τ : Tt} {M : Nat} {μ : Mm} (hT : TV τ M μ) (hG : GT g τ) (w : WG g) {t : Nat} (ht : t < gn g) : FX4_worth [.ref M, .int (nI t)] μ = some (some (.int (nI (gwo g t))), μ) := by
  have hn := w.1
  refine FW_eq (FW_mth ⟨rfl, by simp [zex, Value.category], by simp [hasK, hT.1]⟩ ?_)
  obtain ⟨q1, q2, q3, q4⟩ := hG.2.2.2.2.1 t ht
  have e1 : (2 : Int32) * nI t = nI (2 * t) := pk_mul 2 t
  have e4 : (nI (2 * t)).toNatClampNeg = 2 * t := nI_clamp (by omega)
  have e5 : zin (nI (2 * t)) (tl 21) = true := zin_nI (by show _ < 20; omega) (by decide)
  simp [BX4_worth, SW_sSq, SW_sIf, SW_sSk, SW_sRv, SW_sCo, SW_sBr, SW_stI, SW_stA, SW_stJ, SW_inc, SW_pF, SW_fO, SW_aS, SW_aOI, SW_aOJ, SW_exs, SW_sRe, SW_sRr, SW_exv, BW_v, ite_mm, ite_vi, ite_vj, ite_and, ite_or, stI, stA, stJ, aL, aN, gF, vA, vI, vJ, cI, cJ, cN, iadd, isub, imul, idiv, irem, iand, ior, ixor, ishl, ishr, iushr, opI, ladd, lsub, lmul, land, lor, ldiv, lrem, opJ, lshl, i2l, l2i, i2b, bA, bO, bN, bI, bJ, bX, bNull, bNNull, sRe, sRr, oB_v, cnd, inc, icall, evs, exs, pF, aS, fO, aOI, aOJ, stl1, stl2, zlo, zex, rEq, rNe, rLt, rLe, rGt, rGe, rEqJ, rNeJ, rLtJ, rLeJ, rGtJ, rGeJ, bi_zfi, bi_ne, bi_1, bi_0, zfi_int, zfi_long, Value.category, hT.1, tvR hT 21 rfl, tvK hT 21 rfl, tvL hT 21 rfl, tvA hT 21 (t := 0) rfl (by decide), e1, e4, e5, q1, tk]
theorem FX4_hours_eq {g : Tg} {τ : Tt} {M : Nat} {μ : Mm} (hT : TV τ M μ) (hG : GT g τ) (w : WG g) {t : Nat} (ht : t < gn g) : FX4_hours [.ref M, .int (nI t)] μ = some (some (.int (nI (gho g t))), μ) := by
  have hn := w.1
  refine FW_eq (FW_mth ⟨rfl, by simp [zex, Value.category], by simp [hasK, hT.1]⟩ ?_)
  obtain ⟨q1, q2, q3, q4⟩ := hG.2.2.2.2.1 t ht
  have e1 : (2 : Int32) * nI t = nI (2 * t) := pk_mul 2 t
  have e2 : nI (2 * t) + 1 = nI (2 * t + 1) := nI_1 _
  have e4 : (nI (2 * t + 1)).toNatClampNeg = 2 * t + 1 := nI_clamp (by omega)
  have e5 : zin (nI (2 * t + 1)) (tl 21) = true := zin_nI (by show _ < 20; omega) (by decide)
  simp [BX4_hours, SW_sSq, SW_sIf, SW_sSk, SW_sRv, SW_sCo, SW_sBr, SW_stI, SW_stA, SW_stJ, SW_inc, SW_pF, SW_fO, SW_aS, SW_aOI, SW_aOJ, SW_exs, SW_sRe, SW_sRr, SW_exv, BW_v, ite_mm, ite_vi, ite_vj, ite_and, ite_or, stI, stA, stJ, aL, aN, gF, vA, vI, vJ, cI, cJ, cN, iadd, isub, imul, idiv, irem, iand, ior, ixor, ishl, ishr, iushr, opI, ladd, lsub, lmul, land, lor, ldiv, lrem, opJ, lshl, i2l, l2i, i2b, bA, bO, bN, bI, bJ, bX, bNull, bNNull, sRe, sRr, oB_v, cnd, inc, icall, evs, exs, pF, aS, fO, aOI, aOJ, stl1, stl2, zlo, zex, rEq, rNe, rLt, rLe, rGt, rGe, rEqJ, rNeJ, rLtJ, rLeJ, rGtJ, rGeJ, bi_zfi, bi_ne, bi_1, bi_0, zfi_int, zfi_long, Value.category, hT.1, tvR hT 21 rfl, tvK hT 21 rfl, tvL hT 21 rfl, tvA hT 21 (t := 0) rfl (by decide), e1, e2, e4, e5, q2, tk]
theorem FX4_clearly_eq {g : Tg} {τ : Tt} {M : Nat} {μ : Mm} (hT : TV τ M μ) (hG : GT g τ) (w : WG g) {p t : Nat} (hp : p < gm g) (ht : t < gn g) : FX4_clearly [.ref M, .int (nI p), .int (nI t)] μ = some (some (.int (nI (gcl g p t))), μ) := by
  have hn := w.1
  have hm := w.2.1
  refine FW_eq (FW_mth ⟨rfl, by simp [zex, Value.category], by simp [hasK, hT.1]⟩ ?_)
  obtain ⟨q1, q2⟩ := hG.2.2.2.2.2.2.1 p t hp ht
  have e0 : (10 : Int32) * nI p = nI (10 * p) := pk_mul 10 p
  have e1 : (2 : Int32) * nI (10 * p + t) = nI (2 * (10 * p + t)) := pk_mul 2 _
  have e4 : (nI (2 * (10 * p + t))).toNatClampNeg = 2 * (10 * p + t) := nI_clamp (by omega)
  have e5 : zin (nI (2 * (10 * p + t))) (tl 24) = true := zin_nI (by show _ < 60; omega) (by decide)
  simp [BX4_clearly, SW_sSq, SW_sIf, SW_sSk, SW_sRv, SW_sCo, SW_sBr, SW_stI, SW_stA, SW_stJ, SW_inc, SW_pF, SW_fO, SW_aS, SW_aOI, SW_aOJ, SW_exs, SW_sRe, SW_sRr, SW_exv, BW_v, ite_mm, ite_vi, ite_vj, ite_and, ite_or, stI, stA, stJ, aL, aN, gF, vA, vI, vJ, cI, cJ, cN, iadd, isub, imul, idiv, irem, iand, ior, ixor, ishl, ishr, iushr, opI, ladd, lsub, lmul, land, lor, ldiv, lrem, opJ, lshl, i2l, l2i, i2b, bA, bO, bN, bI, bJ, bX, bNull, bNNull, sRe, sRr, oB_v, cnd, inc, icall, evs, exs, pF, aS, fO, aOI, aOJ, stl1, stl2, zlo, zex, rEq, rNe, rLt, rLe, rGt, rGe, rEqJ, rNeJ, rLtJ, rLeJ, rGtJ, rGeJ, bi_zfi, bi_ne, bi_1, bi_0, zfi_int, zfi_long, Value.category, hT.1, tvR hT 24 rfl, tvK hT 24 rfl, tvL hT 24 rfl, tvA hT 24 (t := 0) rfl (by decide), e0, nI_add, e1, e4, e5, q1, tk]
/-- what a heap is worth, how long it takes -/
def worN (g : Tg) (h : Nat) : Nat := itn (fun t a => a + if h.testBit t then gwo g t else 0) (gn g) 0
def houN (g : Tg) (h : Nat) : Nat := itn (fun t a => a + if h.testBit t then gho g t else 0) (gn g) 0
theorem FX4_worths_eq {g : Tg} {τ : Tt} {M : Nat} {μ : Mm} (hT : TV τ M μ) (hG : GT g τ) (w : WG g) {h : Nat} (hh : h < 2 ^ 31) :
    FX4_worths [.ref M, .int (nI h)] μ = some (some (.int (nI (worN g h))), μ) := by
  have hn := w.1
  refine FW_eq (FW_mth ⟨rfl, by simp [zex, Value.category], by simp [hasK, hT.1]⟩ ?_)
  simp [BX4_worths, SW_sSq, SW_sIf, SW_sSk, SW_sRv, SW_sCo, SW_sBr, SW_stI, SW_stA, SW_stJ, SW_inc, SW_pF, SW_fO, SW_aS, SW_aOI, SW_aOJ, SW_exs, SW_sRe, SW_sRr, SW_exv, BW_v, ite_mm, ite_vi, ite_vj, ite_and, ite_or, stI, stA, stJ, aL, aN, gF, vA, vI, vJ, cI, cJ, cN, iadd, isub, imul, idiv, irem, iand, ior, ixor, ishl, ishr, iushr, opI, ladd, lsub, lmul, land, lor, ldiv, lrem, opJ, lshl, i2l, l2i, i2b, bA, bO, bN, bI, bJ, bX, bNull, bNNull, sRe, sRr, oB_v, cnd, inc, icall, evs, exs, pF, aS, fO, aOI, aOJ, stl1, stl2, zlo, zex, rEq, rNe, rLt, rLe, rGt, rGe, rEqJ, rNeJ, rLtJ, rLeJ, rGtJ, rGeJ, bi_zfi, bi_ne, bi_1, bi_0, zfi_int, zfi_long, Value.category]
  refine SW_fun (gn g) (fun t a => a + if h.testBit t then gwo g t else 0) (fun i a L μ' => μ = μ' ∧ L = [.ref M, .int (nI h), .int (nI a), .int (nI i)]) (a := 0) (by omega) ⟨rfl, rfl⟩ ?_ ?_ ?_
  · rintro i a L _ hi ⟨rfl, rfl⟩
    have e := nI_ltI (a := i) (b := gn g) (by omega) (by omega)
    have e1 := FX4_has_eq μ (h := h) (t := i) hh (by omega)
    have e2 := FX4_worth_eq hT hG w hi
    by_cases c : h.testBit i = true
    · simp [SW_sSq, SW_sIf, SW_sSk, SW_sRv, SW_sCo, SW_sBr, SW_stI, SW_stA, SW_stJ, SW_inc, SW_pF, SW_fO, SW_aS, SW_aOI, SW_aOJ, SW_exs, SW_sRe, SW_sRr, SW_exv, BW_v, ite_mm, ite_vi, ite_vj, ite_and, ite_or, stI, stA, stJ, aL, aN, gF, vA, vI, vJ, cI, cJ, cN, iadd, isub, imul, idiv, irem, iand, ior, ixor, ishl, ishr, iushr, opI, ladd, lsub, lmul, land, lor, ldiv, lrem, opJ, lshl, i2l, l2i, i2b, bA, bO, bN, bI, bJ, bX, bNull, bNNull, sRe, sRr, oB_v, cnd, inc, icall, evs, exs, pF, aS, fO, aOI, aOJ, stl1, stl2, zlo, zex, rEq, rNe, rLt, rLe, rGt, rGe, rEqJ, rNeJ, rLtJ, rLeJ, rGtJ, rGeJ, bi_zfi, bi_ne, bi_1, bi_0, zfi_int, zfi_long, Value.category, hT.1, tvI hT 20 rfl, hG.1, e, hi, e1, e2, c, bi, nI_1, nI_add]
    · simp [SW_sSq, SW_sIf, SW_sSk, SW_sRv, SW_sCo, SW_sBr, SW_stI, SW_stA, SW_stJ, SW_inc, SW_pF, SW_fO, SW_aS, SW_aOI, SW_aOJ, SW_exs, SW_sRe, SW_sRr, SW_exv, BW_v, ite_mm, ite_vi, ite_vj, ite_and, ite_or, stI, stA, stJ, aL, aN, gF, vA, vI, vJ, cI, cJ, cN, iadd, isub, imul, idiv, irem, iand, ior, ixor, ishl, ishr, iushr, opI, ladd, lsub, lmul, land, lor, ldiv, lrem, opJ, lshl, i2l, l2i, i2b, bA, bO, bN, bI, bJ, bX, bNull, bNNull, sRe, sRr, oB_v, cnd, inc, icall, evs, exs, pF, aS, fO, aOI, aOJ, stl1, stl2, zlo, zex, rEq, rNe, rLt, rLe, rGt, rGe, rEqJ, rNeJ, rLtJ, rLeJ, rGtJ, rGeJ, bi_zfi, bi_ne, bi_1, bi_0, zfi_int, zfi_long, Value.category, hT.1, tvI hT 20 rfl, hG.1, e, hi, e1, e2, c, bi, nI_1, nI_add]
  · rintro a L _ ⟨rfl, rfl⟩
    simp [SW_sSq, SW_sIf, SW_sSk, SW_sRv, SW_sCo, SW_sBr, SW_stI, SW_stA, SW_stJ, SW_inc, SW_pF, SW_fO, SW_aS, SW_aOI, SW_aOJ, SW_exs, SW_sRe, SW_sRr, SW_exv, BW_v, ite_mm, ite_vi, ite_vj, ite_and, ite_or, stI, stA, stJ, aL, aN, gF, vA, vI, vJ, cI, cJ, cN, iadd, isub, imul, idiv, irem, iand, ior, ixor, ishl, ishr, iushr, opI, ladd, lsub, lmul, land, lor, ldiv, lrem, opJ, lshl, i2l, l2i, i2b, bA, bO, bN, bI, bJ, bX, bNull, bNNull, sRe, sRr, oB_v, cnd, inc, icall, evs, exs, pF, aS, fO, aOI, aOJ, stl1, stl2, zlo, zex, rEq, rNe, rLt, rLe, rGt, rGe, rEqJ, rNeJ, rLtJ, rLeJ, rGtJ, rGeJ, bi_zfi, bi_ne, bi_1, bi_0, zfi_int, zfi_long, Value.category, hT.1, tvI hT 20 rfl, hG.1, nI_nlt]
  · rintro L _ ⟨rfl, rfl⟩
    simp [SW_sSq, SW_sIf, SW_sSk, SW_sRv, SW_sCo, SW_sBr, SW_stI, SW_stA, SW_stJ, SW_inc, SW_pF, SW_fO, SW_aS, SW_aOI, SW_aOJ, SW_exs, SW_sRe, SW_sRr, SW_exv, BW_v, ite_mm, ite_vi, ite_vj, ite_and, ite_or, stI, stA, stJ, aL, aN, gF, vA, vI, vJ, cI, cJ, cN, iadd, isub, imul, idiv, irem, iand, ior, ixor, ishl, ishr, iushr, opI, ladd, lsub, lmul, land, lor, ldiv, lrem, opJ, lshl, i2l, l2i, i2b, bA, bO, bN, bI, bJ, bX, bNull, bNNull, sRe, sRr, oB_v, cnd, inc, icall, evs, exs, pF, aS, fO, aOI, aOJ, stl1, stl2, zlo, zex, rEq, rNe, rLt, rLe, rGt, rGe, rEqJ, rNeJ, rLtJ, rLeJ, rGtJ, rGeJ, bi_zfi, bi_ne, bi_1, bi_0, zfi_int, zfi_long, Value.category]
    rfl
