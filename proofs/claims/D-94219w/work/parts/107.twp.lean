set_option maxRecDepth 100000
/-! the twin's small questions -/
theorem nI_le_pred {t n : Nat} (x : Int32) (hn : n ≤ 1024) : (0 ≤ x ∧ x ≤ nI n - 1) ↔ ∃ t, t < n ∧ x = nI t := by
  constructor
  · rintro ⟨h1, h2⟩
    have hx : x.toInt ≤ (nI n - 1).toInt := Int32.le_iff_toInt_le.mp h2
    have h0 : (0 : Int) ≤ x.toInt := Int32.le_iff_toInt_le.mp h1
    cases n with
    | zero =>
      have : (nI 0 - 1).toInt = -1 := by decide
      omega
    | succ n =>
      rw [nI_pred, nI_toInt (by omega)] at hx
      obtain ⟨j, hj, rfl⟩ := nI_of (x := x) (by
        intro h
        have := Int32.lt_iff_toInt_lt.mp h
        have h00 : (0 : Int32).toInt = 0 := by decide
        omega)
      rw [nI_toInt hj] at hx
      exact ⟨j, by omega, rfl⟩
  · rintro ⟨t, ht, rfl⟩
    cases n with
    | zero => omega
    | succ n =>
      rw [nI_pred]
      exact ⟨nI_pos' (by omega), nI_le (by omega) (by omega)⟩
/-- is an int the number of one of n -/
def isN (x : Int32) (n : Nat) : Bool := decide (0 ≤ x ∧ x ≤ nI n - 1)
theorem isN_t {x : Int32} {n : Nat} (hn : n ≤ 1024) : isN x n = true ↔ ∃ t, t < n ∧ x = nI t := by
  unfold isN
  rw [decide_eq_true_eq]
  exact nI_le_pred (t := 0) x hn
theorem isN_nI {t n : Nat} (ht : t < n) (hn : n ≤ 1024) : isN (nI t) n = true := (isN_t hn).mpr ⟨t, ht, rfl⟩
theorem FX4_isThing_eq {g : Tg} {τ : Tt} {M : Nat} {μ : Mm} (hT : TV τ M μ) (hG : GT g τ) (x : Int32) : FX4_isThing [.ref M, .int x] μ = some (some (.int (bi (isN x (gn g)))), μ) := by
  refine FW_eq (FW_mth ⟨rfl, by simp [zex, Value.category], by simp [hasK, hT.1]⟩ ?_)
  simp [BX4_isThing, SW_sSq, SW_sIf, SW_sSk, SW_sRv, SW_sCo, SW_sBr, SW_stI, SW_stA, SW_stJ, SW_inc, SW_pF, SW_fO, SW_aS, SW_aOI, SW_aOJ, SW_exs, SW_sRe, SW_sRr, SW_exv, BW_v, ite_mm, ite_vi, ite_vj, ite_and, ite_or, stI, stA, stJ, aL, aN, gF, vA, vI, vJ, cI, cJ, cN, iadd, isub, imul, idiv, irem, iand, ior, ixor, ishl, ishr, iushr, opI, ladd, lsub, lmul, land, lor, ldiv, lrem, opJ, lshl, i2l, l2i, i2b, bA, bO, bN, bI, bJ, bX, bNull, bNNull, sRe, sRr, oB_v, cnd, inc, icall, evs, exs, pF, aS, fO, aOI, aOJ, stl1, stl2, zlo, zex, rEq, rNe, rLt, rLe, rGt, rGe, rEqJ, rNeJ, rLtJ, rLeJ, rGtJ, rGeJ, bi_zfi, bi_ne, bi_1, bi_0, zfi_int, zfi_long, Value.category, hT.1, tvI hT 20 rfl, hG.1, FX4_in_eq, isN]
theorem FX4_isPerson_eq {g : Tg} {τ : Tt} {M : Nat} {μ : Mm} (hT : TV τ M μ) (hG : GT g τ) (x : Int32) : FX4_isPerson [.ref M, .int x] μ = some (some (.int (bi (isN x (gm g)))), μ) := by
  refine FW_eq (FW_mth ⟨rfl, by simp [zex, Value.category], by simp [hasK, hT.1]⟩ ?_)
  simp [BX4_isPerson, SW_sSq, SW_sIf, SW_sSk, SW_sRv, SW_sCo, SW_sBr, SW_stI, SW_stA, SW_stJ, SW_inc, SW_pF, SW_fO, SW_aS, SW_aOI, SW_aOJ, SW_exs, SW_sRe, SW_sRr, SW_exv, BW_v, ite_mm, ite_vi, ite_vj, ite_and, ite_or, stI, stA, stJ, aL, aN, gF, vA, vI, vJ, cI, cJ, cN, iadd, isub, imul, idiv, irem, iand, ior, ixor, ishl, ishr, iushr, opI, ladd, lsub, lmul, land, lor, ldiv, lrem, opJ, lshl, i2l, l2i, i2b, bA, bO, bN, bI, bJ, bX, bNull, bNNull, sRe, sRr, oB_v, cnd, inc, icall, evs, exs, pF, aS, fO, aOI, aOJ, stl1, stl2, zlo, zex, rEq, rNe, rLt, rLe, rGt, rGe, rEqJ, rNeJ, rLtJ, rLeJ, rGtJ, rGeJ, bi_zfi, bi_ne, bi_1, bi_0, zfi_int, zfi_long, Value.category, hT.1, tvI hT 22 rfl, hG.2.1, FX4_in_eq, isN]
theorem FX4_isHeap_eq {g : Tg} {τ : Tt} {M : Nat} {μ : Mm} (hT : TV τ M μ) (hG : GT g τ) (w : WG g) (x : Int32) : FX4_isHeap [.ref M, .int x] μ = some (some (.int (bi (decide (0 < gn g) && isN x (2 ^ gn g)))), μ) := by
  have hn := w.1
  refine FW_eq (FW_mth ⟨rfl, by simp [zex, Value.category], by simp [hasK, hT.1]⟩ ?_)
  have e := nI_ltI (a := 0) (b := gn g) (by omega) (by omega)
  rw [nI_0] at e
  have e2 := n_shl (gn g) (by omega)
  by_cases c : 0 < gn g
  · simp [BX4_isHeap, SW_sSq, SW_sIf, SW_sSk, SW_sRv, SW_sCo, SW_sBr, SW_stI, SW_stA, SW_stJ, SW_inc, SW_pF, SW_fO, SW_aS, SW_aOI, SW_aOJ, SW_exs, SW_sRe, SW_sRr, SW_exv, BW_v, ite_mm, ite_vi, ite_vj, ite_and, ite_or, stI, stA, stJ, aL, aN, gF, vA, vI, vJ, cI, cJ, cN, iadd, isub, imul, idiv, irem, iand, ior, ixor, ishl, ishr, iushr, opI, ladd, lsub, lmul, land, lor, ldiv, lrem, opJ, lshl, i2l, l2i, i2b, bA, bO, bN, bI, bJ, bX, bNull, bNNull, sRe, sRr, oB_v, cnd, inc, icall, evs, exs, pF, aS, fO, aOI, aOJ, stl1, stl2, zlo, zex, rEq, rNe, rLt, rLe, rGt, rGe, rEqJ, rNeJ, rLtJ, rLeJ, rGtJ, rGeJ, bi_zfi, bi_ne, bi_1, bi_0, zfi_int, zfi_long, Value.category, hT.1, tvI hT 20 rfl, hG.1, FX4_in_eq, isN, e, c, e2]
  · simp [BX4_isHeap, SW_sSq, SW_sIf, SW_sSk, SW_sRv, SW_sCo, SW_sBr, SW_stI, SW_stA, SW_stJ, SW_inc, SW_pF, SW_fO, SW_aS, SW_aOI, SW_aOJ, SW_exs, SW_sRe, SW_sRr, SW_exv, BW_v, ite_mm, ite_vi, ite_vj, ite_and, ite_or, stI, stA, stJ, aL, aN, gF, vA, vI, vJ, cI, cJ, cN, iadd, isub, imul, idiv, irem, iand, ior, ixor, ishl, ishr, iushr, opI, ladd, lsub, lmul, land, lor, ldiv, lrem, opJ, lshl, i2l, l2i, i2b, bA, bO, bN, bI, bJ, bX, bNull, bNNull, sRe, sRr, oB_v, cnd, inc, icall, evs, exs, pF, aS, fO, aOI, aOJ, stl1, stl2, zlo, zex, rEq, rNe, rLt, rLe, rGt, rGe, rEqJ, rNeJ, rLtJ, rLeJ, rGtJ, rGeJ, bi_zfi, bi_ne, bi_1, bi_0, zfi_int, zfi_long, Value.category, hT.1, tvI hT 20 rfl, hG.1, FX4_in_eq, isN, e, c, e2]
theorem FX4_follows_eq {g : Tg} {τ : Tt} {M : Nat} {μ : Mm} (hT : TV τ M μ) (hG : GT g τ) (w : WG g) (x : Int32) : FX4_follows [.ref M, .int x] μ = some (some (.int (if (decide (0 < gn g) && isN x (2 ^ gn g)) = true then nI (clo g (-1) x.toNatClampNeg) else -1)), μ) := by
  have hn := w.1
  have h10 := pow_le10 hn
  refine FW_eq (FW_mth ⟨rfl, by simp [zex, Value.category], by simp [hasK, hT.1]⟩ ?_)
  have e0 := FX4_isHeap_eq hT hG w x
  generalize hb : (decide (0 < gn g) && isN x (2 ^ gn g)) = b at *
  cases b with
  | false => simp [BX4_follows, SW_sSq, SW_sIf, SW_sSk, SW_sRv, SW_sCo, SW_sBr, SW_stI, SW_stA, SW_stJ, SW_inc, SW_pF, SW_fO, SW_aS, SW_aOI, SW_aOJ, SW_exs, SW_sRe, SW_sRr, SW_exv, BW_v, ite_mm, ite_vi, ite_vj, ite_and, ite_or, stI, stA, stJ, aL, aN, gF, vA, vI, vJ, cI, cJ, cN, iadd, isub, imul, idiv, irem, iand, ior, ixor, ishl, ishr, iushr, opI, ladd, lsub, lmul, land, lor, ldiv, lrem, opJ, lshl, i2l, l2i, i2b, bA, bO, bN, bI, bJ, bX, bNull, bNNull, sRe, sRr, oB_v, cnd, inc, icall, evs, exs, pF, aS, fO, aOI, aOJ, stl1, stl2, zlo, zex, rEq, rNe, rLt, rLe, rGt, rGe, rEqJ, rNeJ, rLtJ, rLeJ, rGtJ, rGeJ, bi_zfi, bi_ne, bi_1, bi_0, zfi_int, zfi_long, Value.category, e0]
  | true =>
    simp only [Bool.and_eq_true, decide_eq_true_eq] at hb
    obtain ⟨h, hh, rfl⟩ := (isN_t h10).mp hb.2
    have e1 := FX4_withFollows_eq hT hG w hh (-1)
    simp [BX4_follows, SW_sSq, SW_sIf, SW_sSk, SW_sRv, SW_sCo, SW_sBr, SW_stI, SW_stA, SW_stJ, SW_inc, SW_pF, SW_fO, SW_aS, SW_aOI, SW_aOJ, SW_exs, SW_sRe, SW_sRr, SW_exv, BW_v, ite_mm, ite_vi, ite_vj, ite_and, ite_or, stI, stA, stJ, aL, aN, gF, vA, vI, vJ, cI, cJ, cN, iadd, isub, imul, idiv, irem, iand, ior, ixor, ishl, ishr, iushr, opI, ladd, lsub, lmul, land, lor, ldiv, lrem, opJ, lshl, i2l, l2i, i2b, bA, bO, bN, bI, bJ, bX, bNull, bNNull, sRe, sRr, oB_v, cnd, inc, icall, evs, exs, pF, aS, fO, aOI, aOJ, stl1, stl2, zlo, zex, rEq, rNe, rLt, rLe, rGt, rGe, rEqJ, rNeJ, rLtJ, rLeJ, rGtJ, rGeJ, bi_zfi, bi_ne, bi_1, bi_0, zfi_int, zfi_long, Value.category, e0, e1, nI_clamp (n := h) (by omega)]
theorem FX4_hoursOf_eq {g : Tg} {τ : Tt} {M : Nat} {μ : Mm} (hT : TV τ M μ) (hG : GT g τ) (w : WG g) {h : Nat} (hh : h < 2 ^ 31) :
    FX4_hoursOf [.ref M, .int (nI h)] μ = some (some (.int (nI (houN g h))), μ) := by
  have hn := w.1
  refine FW_eq (FW_mth ⟨rfl, by simp [zex, Value.category], by simp [hasK, hT.1]⟩ ?_)
  simp [BX4_hoursOf, SW_sSq, SW_sIf, SW_sSk, SW_sRv, SW_sCo, SW_sBr, SW_stI, SW_stA, SW_stJ, SW_inc, SW_pF, SW_fO, SW_aS, SW_aOI, SW_aOJ, SW_exs, SW_sRe, SW_sRr, SW_exv, BW_v, ite_mm, ite_vi, ite_vj, ite_and, ite_or, stI, stA, stJ, aL, aN, gF, vA, vI, vJ, cI, cJ, cN, iadd, isub, imul, idiv, irem, iand, ior, ixor, ishl, ishr, iushr, opI, ladd, lsub, lmul, land, lor, ldiv, lrem, opJ, lshl, i2l, l2i, i2b, bA, bO, bN, bI, bJ, bX, bNull, bNNull, sRe, sRr, oB_v, cnd, inc, icall, evs, exs, pF, aS, fO, aOI, aOJ, stl1, stl2, zlo, zex, rEq, rNe, rLt, rLe, rGt, rGe, rEqJ, rNeJ, rLtJ, rLeJ, rGtJ, rGeJ, bi_zfi, bi_ne, bi_1, bi_0, zfi_int, zfi_long, Value.category]
  refine SW_fun (gn g) (fun t a => a + if h.testBit t then gho g t else 0) (fun i a L μ' => μ = μ' ∧ L = [.ref M, .int (nI h), .int (nI a), .int (nI i)]) (a := 0) (by omega) ⟨rfl, rfl⟩ ?_ ?_ ?_
  · rintro i a L _ hi ⟨rfl, rfl⟩
    have e := nI_ltI (a := i) (b := gn g) (by omega) (by omega)
    have e1 := FX4_has_eq μ (h := h) (t := i) hh (by omega)
    have e2 := FX4_hours_eq hT hG w hi
    by_cases c : h.testBit i = true
    · simp [SW_sSq, SW_sIf, SW_sSk, SW_sRv, SW_sCo, SW_sBr, SW_stI, SW_stA, SW_stJ, SW_inc, SW_pF, SW_fO, SW_aS, SW_aOI, SW_aOJ, SW_exs, SW_sRe, SW_sRr, SW_exv, BW_v, ite_mm, ite_vi, ite_vj, ite_and, ite_or, stI, stA, stJ, aL, aN, gF, vA, vI, vJ, cI, cJ, cN, iadd, isub, imul, idiv, irem, iand, ior, ixor, ishl, ishr, iushr, opI, ladd, lsub, lmul, land, lor, ldiv, lrem, opJ, lshl, i2l, l2i, i2b, bA, bO, bN, bI, bJ, bX, bNull, bNNull, sRe, sRr, oB_v, cnd, inc, icall, evs, exs, pF, aS, fO, aOI, aOJ, stl1, stl2, zlo, zex, rEq, rNe, rLt, rLe, rGt, rGe, rEqJ, rNeJ, rLtJ, rLeJ, rGtJ, rGeJ, bi_zfi, bi_ne, bi_1, bi_0, zfi_int, zfi_long, Value.category, hT.1, tvI hT 20 rfl, hG.1, e, hi, e1, e2, c, bi, nI_1, nI_add]
    · simp [SW_sSq, SW_sIf, SW_sSk, SW_sRv, SW_sCo, SW_sBr, SW_stI, SW_stA, SW_stJ, SW_inc, SW_pF, SW_fO, SW_aS, SW_aOI, SW_aOJ, SW_exs, SW_sRe, SW_sRr, SW_exv, BW_v, ite_mm, ite_vi, ite_vj, ite_and, ite_or, stI, stA, stJ, aL, aN, gF, vA, vI, vJ, cI, cJ, cN, iadd, isub, imul, idiv, irem, iand, ior, ixor, ishl, ishr, iushr, opI, ladd, lsub, lmul, land, lor, ldiv, lrem, opJ, lshl, i2l, l2i, i2b, bA, bO, bN, bI, bJ, bX, bNull, bNNull, sRe, sRr, oB_v, cnd, inc, icall, evs, exs, pF, aS, fO, aOI, aOJ, stl1, stl2, zlo, zex, rEq, rNe, rLt, rLe, rGt, rGe, rEqJ, rNeJ, rLtJ, rLeJ, rGtJ, rGeJ, bi_zfi, bi_ne, bi_1, bi_0, zfi_int, zfi_long, Value.category, hT.1, tvI hT 20 rfl, hG.1, e, hi, e1, e2, c, bi, nI_1, nI_add]
  · rintro a L _ ⟨rfl, rfl⟩
    simp [SW_sSq, SW_sIf, SW_sSk, SW_sRv, SW_sCo, SW_sBr, SW_stI, SW_stA, SW_stJ, SW_inc, SW_pF, SW_fO, SW_aS, SW_aOI, SW_aOJ, SW_exs, SW_sRe, SW_sRr, SW_exv, BW_v, ite_mm, ite_vi, ite_vj, ite_and, ite_or, stI, stA, stJ, aL, aN, gF, vA, vI, vJ, cI, cJ, cN, iadd, isub, imul, idiv, irem, iand, ior, ixor, ishl, ishr, iushr, opI, ladd, lsub, lmul, land, lor, ldiv, lrem, opJ, lshl, i2l, l2i, i2b, bA, bO, bN, bI, bJ, bX, bNull, bNNull, sRe, sRr, oB_v, cnd, inc, icall, evs, exs, pF, aS, fO, aOI, aOJ, stl1, stl2, zlo, zex, rEq, rNe, rLt, rLe, rGt, rGe, rEqJ, rNeJ, rLtJ, rLeJ, rGtJ, rGeJ, bi_zfi, bi_ne, bi_1, bi_0, zfi_int, zfi_long, Value.category, hT.1, tvI hT 20 rfl, hG.1, nI_nlt]
  · rintro L _ ⟨rfl, rfl⟩
    simp [SW_sSq, SW_sIf, SW_sSk, SW_sRv, SW_sCo, SW_sBr, SW_stI, SW_stA, SW_stJ, SW_inc, SW_pF, SW_fO, SW_aS, SW_aOI, SW_aOJ, SW_exs, SW_sRe, SW_sRr, SW_exv, BW_v, ite_mm, ite_vi, ite_vj, ite_and, ite_or, stI, stA, stJ, aL, aN, gF, vA, vI, vJ, cI, cJ, cN, iadd, isub, imul, idiv, irem, iand, ior, ixor, ishl, ishr, iushr, opI, ladd, lsub, lmul, land, lor, ldiv, lrem, opJ, lshl, i2l, l2i, i2b, bA, bO, bN, bI, bJ, bX, bNull, bNNull, sRe, sRr, oB_v, cnd, inc, icall, evs, exs, pF, aS, fO, aOI, aOJ, stl1, stl2, zlo, zex, rEq, rNe, rLt, rLe, rGt, rGe, rEqJ, rNeJ, rLtJ, rLeJ, rGtJ, rGeJ, bi_zfi, bi_ne, bi_1, bi_0, zfi_int, zfi_long, Value.category]
    rfl
