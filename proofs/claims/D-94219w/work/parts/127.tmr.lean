set_option maxRecDepth 100000
/-! a row in the mean -/
def mrC (g : Tg) (τ : Tt) (i k : Nat) : Nat := if (thQ g (thN τ) (rpN τ i) (rtN τ i) && !k.testBit (rtN τ i) && leQ g (rtN τ i) k) = true then gcl g (rpN τ i) (rtN τ i) else 0
def mrG (g : Tg) (τ : Tt) (i k : Nat) : Nat := clo g (-1) (k ||| 2 ^ rtN τ i)
def mrS (g : Tg) (τ : Tt) (i : Nat) (W : Nat → Nat) (k : Nat) (N : Nat → Nat) : Nat → Nat := fun j => (N j + if j = mrG g τ i k then mrC g τ i k * W k else 0) + if j = k then (16 - mrC g τ i k) * W k else 0
def mrW (g : Tg) (τ : Tt) : Nat → Nat → Nat
  | 0 => fun k => if k = hdN τ then 1 else 0
  | i + 1 => itn (mrS g τ i (mrW g τ i)) 1024 (fun _ => 0)
theorem mrW_s (g : Tg) (τ : Tt) (i : Nat) : mrW g τ (i + 1) = itn (mrS g τ i (mrW g τ i)) 1024 (fun _ => 0) := rfl
theorem mrW_0 (g : Tg) (τ : Tt) (k : Nat) : mrW g τ 0 k = if k = hdN τ then 1 else 0 := rfl
theorem smP_z : ∀ n, smP (fun _ => 0) n = 0 := by
  intro n
  induction n with
  | zero => rfl
  | succ n ih => simp only [smP, ih]
def mrM (g : Tg) (τ : Tt) : Int32 := nI (1000 * smP (fun k => mrW g τ (rwN τ) k * worN g k) 1024 / 16 ^ rwN τ)
theorem smP_pt (N : Nat → Nat) (q x : Nat) : ∀ n, smP (fun j => N j + if j = q then x else 0) n = smP N n + if q < n then x else 0 := by
  intro n
  induction n with
  | zero => rfl
  | succ n ih =>
    simp only [smP, ih]
    by_cases c : n = q
    · subst c
      rw [if_pos rfl, if_neg (by omega), if_pos (by omega)]
      omega
    · rw [if_neg c]
      by_cases c2 : q < n
      · rw [if_pos c2, if_pos (by omega)]
        omega
      · rw [if_neg c2, if_neg (by omega)]
        omega
theorem mrS_0 {g : Tg} {τ : Tt} {i : Nat} {W : Nat → Nat} {k : Nat} (h : W k = 0) (N : Nat → Nat) : mrS g τ i W k N = N := by
  funext j
  simp [mrS, h]
theorem mrC_le {g : Tg} (w : WG g) (τ : Tt) (i k : Nat) : mrC g τ i k ≤ 16 := by
  unfold mrC
  split
  · exact (w.2.2.2.2.2.2.2.2.2.1 _ _).1
  · omega
/-- nothing beyond the heaps; in all, sixteen to the i -/
theorem mrW_ok {g : Tg} {c : Nat} {τ : Tt} (hI : TI g c τ) : ∀ i, i ≤ rwN τ → (∀ k, 2 ^ gn g ≤ k → mrW g τ i k = 0) ∧ smP (mrW g τ i) 1024 = 16 ^ i := by
  have hb := hI.b
  intro i
  induction i with
  | zero =>
    intro _
    refine ⟨fun k hk => ?_, ?_⟩
    · rw [mrW_0, if_neg (by omega)]
    · have e := smP_pt (fun _ => 0) (hdN τ) 1 1024
      simp only [Nat.zero_add] at e
      have e2 : mrW g τ 0 = fun k => if k = hdN τ then 1 else 0 := funext fun k => mrW_0 g τ k
      rw [e2, e, if_pos (by omega), smP_z]
  | succ i ih =>
    intro hi
    obtain ⟨h1, h2⟩ := ih (by omega)
    obtain ⟨⟨r1, r2⟩, r3, r4⟩ := hI.r.2 i (by omega)
    have key : ∀ n, n ≤ 1024 → (∀ k, 2 ^ gn g ≤ k → itn (mrS g τ i (mrW g τ i)) n (fun _ => 0) k = 0) ∧ smP (itn (mrS g τ i (mrW g τ i)) n (fun _ => 0)) 1024 = 16 * smP (mrW g τ i) n := by
      intro n
      induction n with
      | zero =>
        intro _
        refine ⟨fun k _ => rfl, ?_⟩
        rw [show itn (mrS g τ i (mrW g τ i)) 0 (fun _ => 0) = fun _ => 0 from rfl, smP_z]
        rfl
      | succ n ihn =>
        intro hn
        obtain ⟨a1, a2⟩ := ihn (by omega)
        rw [show smP (mrW g τ i) (n + 1) = smP (mrW g τ i) n + mrW g τ i n from rfl, show itn (mrS g τ i (mrW g τ i)) (n + 1) (fun _ => 0) = mrS g τ i (mrW g τ i) n (itn (mrS g τ i (mrW g τ i)) n (fun _ => 0)) from rfl]
        by_cases cw : mrW g τ i n = 0
        · rw [mrS_0 cw, cw]
          exact ⟨a1, by omega⟩
        · have hn2 : n < 2 ^ gn g := by
            by_cases c3 : n < 2 ^ gn g
            · exact c3
            · exact absurd (h1 n (by omega)) cw
          have hg : mrG g τ i n < 2 ^ gn g := clo_lt hI.w (or2_lt hn2 r4)
          have hc := mrC_le hI.w τ i n
          generalize itn (mrS g τ i (mrW g τ i)) n (fun _ => 0) = N at *
          refine ⟨fun k hk => ?_, ?_⟩
          · unfold mrS
            rw [if_neg (c := k = n) (by omega), if_neg (c := k = mrG g τ i n) (by omega)]
            exact a1 k hk
          · unfold mrS
            rw [smP_pt, smP_pt, a2, if_pos (by omega), if_pos (by omega), Nat.mul_add, Nat.add_assoc, ← Nat.add_mul]
            congr 2
            omega
    obtain ⟨k1, k2⟩ := key 1024 (Nat.le_refl _)
    rw [mrW_s]
    exact ⟨k1, by rw [k2, h2, Nat.pow_succ]; omega⟩
theorem smP_at (f : Nat → Nat) : ∀ n k, k < n → f k ≤ smP f n := by
  intro n
  induction n with
  | zero => intro k h; omega
  | succ n ih =>
    intro k hk
    simp only [smP]
    by_cases c : k = n
    · subst c
      omega
    · have := ih k (by omega)
      omega
theorem pow16 {i : Nat} (h : i ≤ 8) : 16 ^ i ≤ 4294967296 := Nat.le_trans (Nat.pow_le_pow_right (by omega) h) (Nat.le_of_ble_eq_true rfl)
theorem mrW_le {g : Tg} {c : Nat} {τ : Tt} (hI : TI g c τ) {i k : Nat} (hi : i ≤ rwN τ) (hk : k < 1024) : mrW g τ i k ≤ 4294967296 := by
  have h1 := smP_at (mrW g τ i) 1024 k hk
  rw [(mrW_ok hI i hi).2] at h1
  have := hI.r.1
  exact Nat.le_trans h1 (pow16 (by omega))
def WE (τ' : Tt) (W : Nat → Nat) (n : Nat) : Prop := ∀ k, k < n → τ'.2.2.2 61 k = lN (W k)
def NE (τ' : Tt) (N : Nat → Nat) : Prop := ∀ k, k < 1024 → τ'.2.2.2 62 k = lN (N k)
def ZE (g : Tg) (τ : Tt) (M : Nat) (μ : Mm) (W N : Nat → Nat) (μ' : Mm) : Prop := ∃ τ', SC τ τ' ∧ WE τ' W 1024 ∧ NE τ' N ∧ TP μ M τ' μ'
theorem lf_mul (a b : Nat) : lN a * lN b = lN (a * b) := lN_mul a b
theorem mr_in {g : Tg} {c : Nat} {τ : Tt} {M : Nat} {μ μ1 : Mm} (hI : TI g c τ) {i : Nat} (hi : i < rwN τ) (al : Int64) {j7 j8 : Value} (hj7 : j7.category = 1) (hj8 : j8.category = 1) (hE : ZE g τ M μ (mrW g τ i) (fun _ => 0) μ1) :
    SW (sSq (stI 7 (cI 0)) (wh (bI rLt (vI 7) (cI 1024)) (sSq (sIf (bJ rEqJ (aL 1 (gF 4 61 (vA 0)) (vI 7)) (cJ 0)) sCo sSk) (sSq (stI 8 (cnd (bA (bA (bX (vI 6)) (bN (bX (icall FX4_has [(1, (vI 7)), (1, (vI 5))])))) (bI rEq (iand (aL 0 (gF 4 25 (vA 0)) (vI 5)) (vI 7)) (aL 0 (gF 4 25 (vA 0)) (vI 5)))) (icall FX4_clearly [(1, (vA 0)), (1, (vI 4)), (1, (vI 5))]) (cI 0))) (sSq (aOJ o_ladd (gF 4 62 (vA 0)) (icall FX4_withFollows [(1, (vA 0)), (1, (ior (vI 7) (ishl (cI 1) (vI 5)))), (1, (cI (-1)))]) (lmul (i2l (vI 8)) (aL 1 (gF 4 61 (vA 0)) (vI 7)))) (aOJ o_ladd (gF 4 62 (vA 0)) (vI 7) (lmul (i2l (isub (cI 16) (vI 8))) (aL 1 (gF 4 61 (vA 0)) (vI 7))))))) (inc 7 1))) [.ref M, .long al, .null, .int (nI i), .int (nI (rpN τ i)), .int (nI (rtN τ i)), .int (bi (thQ g (thN τ) (rpN τ i) (rtN τ i))), j7, j8] μ1 (fun o _ L μ' => o = 0 ∧ ZE g τ M μ (mrW g τ i) (mrW g τ (i + 1)) μ' ∧ ∃ j7 j8 : Value, j7.category = 1 ∧ j8.category = 1 ∧ L = [.ref M, .long al, .null, .int (nI i), .int (nI (rpN τ i)), .int (nI (rtN τ i)), .int (bi (thQ g (thN τ) (rpN τ i) (rtN τ i))), j7, j8]) := by
  have hb := hI.b
  obtain ⟨⟨r1, r2⟩, r3, r4⟩ := hI.r.2 i hi
  obtain ⟨w1, w2⟩ := mrW_ok hI i (by omega)
  simp (disch := omega) [↓SW_sQ, ↓SW_sIf, ↓SW_sSk, ↓SW_sRv, ↓SW_sCo, ↓SW_sBr, ↓SW_stI, ↓SW_stA, ↓SW_stJ, ↓SW_inc, ↓SW_pF, ↓SW_fO, ↓SW_aS, ↓SW_aOI, ↓SW_aOJ, ↓SW_exs, ↓SW_sRe, ↓SW_sRr, ↓SW_exv, ↓BW_v, ↓cI_a, ↓cJ_a, ↓cN_a, ↓sC_a, ↓vI_a, ↓vJ_a, ↓vA_a, ↓opI_a, ↓opJ_a, ↓lshl_a, ↓i2l_a, ↓l2i_a, ↓i2b_a, ↓gF_a, ↓aL_a, ↓aN_a, ↓icall_a, ↓cst_a, ↓nw_a, ↓nA_a, ↓cnd_a, ↓bI_a, ↓bJ_a, ↓bNull_a, ↓bNNull_a, ↓bX_a, ↓bA_a, ↓bO_a, ↓bN_a, ↓sSk_a, ↓stI_a, ↓stA_a, ↓stJ_a, ↓inc_a, ↓pF_a, ↓aS_a, ↓fO_a, ↓aOI_a, ↓aOJ_a, ↓exs_a, ↓sRe_a, ↓sRr_a, ↓sRv_a, ↓sCo_a, ↓sBr_a, ↓mA2_a, ↓mA3_a, ↓iadd_a, ↓isub_a, ↓imul_a, ↓iand_a, ↓ior_a, ↓ixor_a, ↓ishl_a, ↓ishr_a, ↓iushr_a, ↓idiv_a, ↓irem_a, ↓ladd_a, ↓lsub_a, ↓lmul_a, ↓land_a, ↓lor_a, ↓ldiv_a, ↓lrem_a, ↓evs_n, ↓evs_a, ↓sK_a, ↓oB_v, List.getElem?_cons_zero, List.getElem?_cons_succ, cat_i, cat_l, cat_r, cat_n, zfi_b0, zfi_b1, ite_mm, ite_vi, ite_vj, ite_and, ite_or, stl1, stl2, zlo, zex, rEq, rNe, rLt, rLe, rGt, rGe, rEqJ, rNeJ, rLtJ, rLeJ, rGtJ, rGeJ, bi_zfi, bi_ne, bi_1, bi_0, zfi_int, zfi_long, hj7, hj8]
  refine SW_fun 1024 (mrS g τ i (mrW g τ i)) (fun k N L μ' => ZE g τ M μ (mrW g τ i) N μ' ∧ ∃ j8 : Value, j8.category = 1 ∧ L = [.ref M, .long al, .null, .int (nI i), .int (nI (rpN τ i)), .int (nI (rtN τ i)), .int (bi (thQ g (thN τ) (rpN τ i) (rtN τ i))), .int (nI k), j8]) (a := fun _ => 0) (by omega) ⟨hE, j8, hj8, rfl⟩ ?_ ?_ ?_
  · rintro k N L μ2 hk ⟨⟨τ2, hS2, hW2, hN2, hP2⟩, j8, hj8, rfl⟩
    have hT2 := hP2.1
    have hG2 := hS2.gt hI.g
    have hwk := hW2 k hk
    have hwl := mrW_le hI (i := i) (k := k) (by omega) hk
    have hz : (lN (mrW g τ i k) = 0) ↔ mrW g τ i k = 0 := lf_ne0 _ (by omega)
    by_cases cw : mrW g τ i k = 0
    · rw [mrS_0 cw]
      simp (disch := omega) [↓SW_sQ, ↓SW_sIf, ↓SW_sSk, ↓SW_sRv, ↓SW_sCo, ↓SW_sBr, ↓SW_stI, ↓SW_stA, ↓SW_stJ, ↓SW_inc, ↓SW_pF, ↓SW_fO, ↓SW_aS, ↓SW_aOI, ↓SW_aOJ, ↓SW_exs, ↓SW_sRe, ↓SW_sRr, ↓SW_exv, ↓BW_v, ↓cI_a, ↓cJ_a, ↓cN_a, ↓sC_a, ↓vI_a, ↓vJ_a, ↓vA_a, ↓opI_a, ↓opJ_a, ↓lshl_a, ↓i2l_a, ↓l2i_a, ↓i2b_a, ↓gF_a, ↓aL_a, ↓aN_a, ↓icall_a, ↓cst_a, ↓nw_a, ↓nA_a, ↓cnd_a, ↓bI_a, ↓bJ_a, ↓bNull_a, ↓bNNull_a, ↓bX_a, ↓bA_a, ↓bO_a, ↓bN_a, ↓sSk_a, ↓stI_a, ↓stA_a, ↓stJ_a, ↓inc_a, ↓pF_a, ↓aS_a, ↓fO_a, ↓aOI_a, ↓aOJ_a, ↓exs_a, ↓sRe_a, ↓sRr_a, ↓sRv_a, ↓sCo_a, ↓sBr_a, ↓mA2_a, ↓mA3_a, ↓iadd_a, ↓isub_a, ↓imul_a, ↓iand_a, ↓ior_a, ↓ixor_a, ↓ishl_a, ↓ishr_a, ↓iushr_a, ↓idiv_a, ↓irem_a, ↓ladd_a, ↓lsub_a, ↓lmul_a, ↓land_a, ↓lor_a, ↓ldiv_a, ↓lrem_a, ↓evs_n, ↓evs_a, ↓sK_a, ↓oB_v, List.getElem?_cons_zero, List.getElem?_cons_succ, cat_i, cat_l, cat_r, cat_n, zfi_b0, zfi_b1, ite_mm, ite_vi, ite_vj, ite_and, ite_or, stl1, stl2, zlo, zex, rEq, rNe, rLt, rLe, rGt, rGe, rEqJ, rNeJ, rLtJ, rLeJ, rGtJ, rGeJ, bi_zfi, bi_ne, bi_1, bi_0, zfi_int, zfi_long, -Prod.exists, hT2.1, fR hT2 61 38 rfl rfl, fK hT2 61 38 101 rfl rfl rfl, fL hT2 61 38 1024 rfl rfl rfl, fB hT2 61 38 rfl rfl, hwk, nf_add, nf_mul, nf_sub, nf_lt, nf_le, nf_eq, nf_cl, nf_zin, nf_shl, nf_bit, nf_m1, nf_m1', nf_bi0, nf_ltr0, nf_ltl0, nf_ler0, nf_lel0, nf_eqr0, nf_eql0, nf_al1, nf_ar1, nf_sr1, nf_ltr1, nf_ltl1, nf_ler1, nf_lel1, nf_eqr1, nf_eql1, nf_ml2, nf_mr2, nf_al2, nf_ar2, nf_sr2, nf_ltr2, nf_ltl2, nf_ler2, nf_lel2, nf_eqr2, nf_eql2, nf_ml3, nf_mr3, nf_al3, nf_ar3, nf_sr3, nf_ltr3, nf_ltl3, nf_ler3, nf_lel3, nf_eqr3, nf_eql3, nf_ml4, nf_mr4, nf_al4, nf_ar4, nf_sr4, nf_ltr4, nf_ltl4, nf_ler4, nf_lel4, nf_eqr4, nf_eql4, nf_ml8, nf_mr8, nf_ltr8, nf_ltl8, nf_ler8, nf_lel8, nf_eqr8, nf_eql8, nf_ml10, nf_mr10, nf_al10, nf_ar10, nf_sr10, nf_ltr10, nf_ltl10, nf_ler10, nf_lel10, nf_eqr10, nf_eql10, nf_ltr12, nf_ltl12, nf_ler12, nf_lel12, nf_eqr12, nf_eql12, nf_ltr14, nf_ltl14, nf_ler14, nf_lel14, nf_eqr14, nf_eql14, nf_ml16, nf_mr16, nf_al16, nf_ar16, nf_sr16, nf_sl16, nf_ltr16, nf_ltl16, nf_ler16, nf_lel16, nf_eqr16, nf_eql16, nf_al20, nf_ar20, nf_sr20, nf_ltr20, nf_ltl20, nf_ler20, nf_lel20, nf_eqr20, nf_eql20, nf_sl24, nf_ltr24, nf_ltl24, nf_ler24, nf_lel24, nf_eqr24, nf_eql24, nf_sl30, nf_ltr30, nf_ltl30, nf_ler30, nf_lel30, nf_eqr30, nf_eql30, nf_ltr40, nf_ltl40, nf_ler40, nf_lel40, nf_eqr40, nf_eql40, nf_ltr60, nf_ltl60, nf_ler60, nf_lel60, nf_eqr60, nf_eql60, nf_ltr90, nf_ltl90, nf_ler90, nf_lel90, nf_eqr90, nf_eql90, nf_al100, nf_ar100, nf_sr100, nf_ltr100, nf_ltl100, nf_ler100, nf_lel100, nf_eqr100, nf_eql100, nf_ml120, nf_mr120, nf_ltr120, nf_ltl120, nf_ler120, nf_lel120, nf_eqr120, nf_eql120, nf_ml160, nf_mr160, nf_ltr160, nf_ltl160, nf_ler160, nf_lel160, nf_eqr160, nf_eql160, nf_ltr500, nf_ltl500, nf_ler500, nf_lel500, nf_eqr500, nf_eql500, nf_ml1000, nf_mr1000, nf_ltr1000, nf_ltl1000, nf_ler1000, nf_lel1000, nf_eqr1000, nf_eql1000, nf_ml1024, nf_mr1024, nf_ltr1024, nf_ltl1024, nf_ler1024, nf_lel1024, nf_eqr1024, nf_eql1024, n_and, n_or, n_dif, n_difc, hk, hz, cw, hj8]
      exact ⟨τ2, hS2, hW2, hN2, hP2⟩
    · have hk2 : k < 2 ^ gn g := by
        by_cases c3 : k < 2 ^ gn g
        · exact c3
        · exact absurd (w1 k (by omega)) cw
      have hg : mrG g τ i k < 2 ^ gn g := clo_lt hI.w (or2_lt hk2 r4)
      have hc := mrC_le hI.w τ i k
      have q25 : τ2.2.2.1 25 (rtN τ i) = nI (gle g (rtN τ i)) := gt25 hG2 _ r4
      have q1 := FX4_clearly_eq hT2 hG2 hI.w r2 r4
      have q2 := fun μ' (hT : TV τ2 M μ') => FX4_withFollows_eq hT hG2 hI.w (or2_lt hk2 r4) (-1)
      have hle := hI.w.2.2.2.2.2.2.1 (rtN τ i)
      have hla := le_and (h := k) hle
      simp (disch := omega) only [BW_v, bI_a, vI_a, cI_a, List.getElem?_cons_succ, List.getElem?_cons_zero, rLt, nf_ltr1024, hk, decide_true, true_and]
      refine SW_seq (fun L1 μ3 => L1 = [.ref M, .long al, .null, .int (nI i), .int (nI (rpN τ i)), .int (nI (rtN τ i)), .int (bi (thQ g (thN τ) (rpN τ i) (rtN τ i))), .int (nI k), j8] ∧ μ2 = μ3) ?_ ?_
      · simp (disch := omega) [↓SW_sQ, ↓SW_sIf, ↓SW_sSk, ↓SW_sRv, ↓SW_sCo, ↓SW_sBr, ↓SW_stI, ↓SW_stA, ↓SW_stJ, ↓SW_inc, ↓SW_pF, ↓SW_fO, ↓SW_aS, ↓SW_aOI, ↓SW_aOJ, ↓SW_exs, ↓SW_sRe, ↓SW_sRr, ↓SW_exv, ↓BW_v, ↓cI_a, ↓cJ_a, ↓cN_a, ↓sC_a, ↓vI_a, ↓vJ_a, ↓vA_a, ↓opI_a, ↓opJ_a, ↓lshl_a, ↓i2l_a, ↓l2i_a, ↓i2b_a, ↓gF_a, ↓aL_a, ↓aN_a, ↓icall_a, ↓cst_a, ↓nw_a, ↓nA_a, ↓cnd_a, ↓bI_a, ↓bJ_a, ↓bNull_a, ↓bNNull_a, ↓bX_a, ↓bA_a, ↓bO_a, ↓bN_a, ↓sSk_a, ↓stI_a, ↓stA_a, ↓stJ_a, ↓inc_a, ↓pF_a, ↓aS_a, ↓fO_a, ↓aOI_a, ↓aOJ_a, ↓exs_a, ↓sRe_a, ↓sRr_a, ↓sRv_a, ↓sCo_a, ↓sBr_a, ↓mA2_a, ↓mA3_a, ↓iadd_a, ↓isub_a, ↓imul_a, ↓iand_a, ↓ior_a, ↓ixor_a, ↓ishl_a, ↓ishr_a, ↓iushr_a, ↓idiv_a, ↓irem_a, ↓ladd_a, ↓lsub_a, ↓lmul_a, ↓land_a, ↓lor_a, ↓ldiv_a, ↓lrem_a, ↓evs_n, ↓evs_a, ↓sK_a, ↓oB_v, List.getElem?_cons_zero, List.getElem?_cons_succ, cat_i, cat_l, cat_r, cat_n, zfi_b0, zfi_b1, ite_mm, ite_vi, ite_vj, ite_and, ite_or, stl1, stl2, zlo, zex, rEq, rNe, rLt, rLe, rGt, rGe, rEqJ, rNeJ, rLtJ, rLeJ, rGtJ, rGeJ, bi_zfi, bi_ne, bi_1, bi_0, zfi_int, zfi_long, hT2.1, fR hT2 61 38 rfl rfl, fK hT2 61 38 101 rfl rfl rfl, fL hT2 61 38 1024 rfl rfl rfl, fB hT2 61 38 rfl rfl, hwk, nf_add, nf_mul, nf_sub, nf_lt, nf_le, nf_eq, nf_cl, nf_zin, nf_shl, nf_bit, nf_m1, nf_m1', nf_bi0, nf_ltr0, nf_ltl0, nf_ler0, nf_lel0, nf_eqr0, nf_eql0, nf_al1, nf_ar1, nf_sr1, nf_ltr1, nf_ltl1, nf_ler1, nf_lel1, nf_eqr1, nf_eql1, nf_ml2, nf_mr2, nf_al2, nf_ar2, nf_sr2, nf_ltr2, nf_ltl2, nf_ler2, nf_lel2, nf_eqr2, nf_eql2, nf_ml3, nf_mr3, nf_al3, nf_ar3, nf_sr3, nf_ltr3, nf_ltl3, nf_ler3, nf_lel3, nf_eqr3, nf_eql3, nf_ml4, nf_mr4, nf_al4, nf_ar4, nf_sr4, nf_ltr4, nf_ltl4, nf_ler4, nf_lel4, nf_eqr4, nf_eql4, nf_ml8, nf_mr8, nf_ltr8, nf_ltl8, nf_ler8, nf_lel8, nf_eqr8, nf_eql8, nf_ml10, nf_mr10, nf_al10, nf_ar10, nf_sr10, nf_ltr10, nf_ltl10, nf_ler10, nf_lel10, nf_eqr10, nf_eql10, nf_ltr12, nf_ltl12, nf_ler12, nf_lel12, nf_eqr12, nf_eql12, nf_ltr14, nf_ltl14, nf_ler14, nf_lel14, nf_eqr14, nf_eql14, nf_ml16, nf_mr16, nf_al16, nf_ar16, nf_sr16, nf_sl16, nf_ltr16, nf_ltl16, nf_ler16, nf_lel16, nf_eqr16, nf_eql16, nf_al20, nf_ar20, nf_sr20, nf_ltr20, nf_ltl20, nf_ler20, nf_lel20, nf_eqr20, nf_eql20, nf_sl24, nf_ltr24, nf_ltl24, nf_ler24, nf_lel24, nf_eqr24, nf_eql24, nf_sl30, nf_ltr30, nf_ltl30, nf_ler30, nf_lel30, nf_eqr30, nf_eql30, nf_ltr40, nf_ltl40, nf_ler40, nf_lel40, nf_eqr40, nf_eql40, nf_ltr60, nf_ltl60, nf_ler60, nf_lel60, nf_eqr60, nf_eql60, nf_ltr90, nf_ltl90, nf_ler90, nf_lel90, nf_eqr90, nf_eql90, nf_al100, nf_ar100, nf_sr100, nf_ltr100, nf_ltl100, nf_ler100, nf_lel100, nf_eqr100, nf_eql100, nf_ml120, nf_mr120, nf_ltr120, nf_ltl120, nf_ler120, nf_lel120, nf_eqr120, nf_eql120, nf_ml160, nf_mr160, nf_ltr160, nf_ltl160, nf_ler160, nf_lel160, nf_eqr160, nf_eql160, nf_ltr500, nf_ltl500, nf_ler500, nf_lel500, nf_eqr500, nf_eql500, nf_ml1000, nf_mr1000, nf_ltr1000, nf_ltl1000, nf_ler1000, nf_lel1000, nf_eqr1000, nf_eql1000, nf_ml1024, nf_mr1024, nf_ltr1024, nf_ltl1024, nf_ler1024, nf_lel1024, nf_eqr1024, nf_eql1024, n_and, n_or, n_dif, n_difc, hz, cw]
      rintro _ _ ⟨rfl, rfl⟩
      refine SW_seq (fun L1 μ3 => L1 = [.ref M, .long al, .null, .int (nI i), .int (nI (rpN τ i)), .int (nI (rtN τ i)), .int (bi (thQ g (thN τ) (rpN τ i) (rtN τ i))), .int (nI k), .int (nI (mrC g τ i k))] ∧ μ2 = μ3) ?_ ?_
      · cases c1 : thQ g (thN τ) (rpN τ i) (rtN τ i)
        · have e0 : mrC g τ i k = 0 := by simp [mrC, c1]
          simp (disch := omega) [↓SW_sQ, ↓SW_sIf, ↓SW_sSk, ↓SW_sRv, ↓SW_sCo, ↓SW_sBr, ↓SW_stI, ↓SW_stA, ↓SW_stJ, ↓SW_inc, ↓SW_pF, ↓SW_fO, ↓SW_aS, ↓SW_aOI, ↓SW_aOJ, ↓SW_exs, ↓SW_sRe, ↓SW_sRr, ↓SW_exv, ↓BW_v, ↓cI_a, ↓cJ_a, ↓cN_a, ↓sC_a, ↓vI_a, ↓vJ_a, ↓vA_a, ↓opI_a, ↓opJ_a, ↓lshl_a, ↓i2l_a, ↓l2i_a, ↓i2b_a, ↓gF_a, ↓aL_a, ↓aN_a, ↓icall_a, ↓cst_a, ↓nw_a, ↓nA_a, ↓cnd_a, ↓bI_a, ↓bJ_a, ↓bNull_a, ↓bNNull_a, ↓bX_a, ↓bA_a, ↓bO_a, ↓bN_a, ↓sSk_a, ↓stI_a, ↓stA_a, ↓stJ_a, ↓inc_a, ↓pF_a, ↓aS_a, ↓fO_a, ↓aOI_a, ↓aOJ_a, ↓exs_a, ↓sRe_a, ↓sRr_a, ↓sRv_a, ↓sCo_a, ↓sBr_a, ↓mA2_a, ↓mA3_a, ↓iadd_a, ↓isub_a, ↓imul_a, ↓iand_a, ↓ior_a, ↓ixor_a, ↓ishl_a, ↓ishr_a, ↓iushr_a, ↓idiv_a, ↓irem_a, ↓ladd_a, ↓lsub_a, ↓lmul_a, ↓land_a, ↓lor_a, ↓ldiv_a, ↓lrem_a, ↓evs_n, ↓evs_a, ↓sK_a, ↓oB_v, List.getElem?_cons_zero, List.getElem?_cons_succ, cat_i, cat_l, cat_r, cat_n, zfi_b0, zfi_b1, ite_mm, ite_vi, ite_vj, ite_and, ite_or, stl1, stl2, zlo, zex, rEq, rNe, rLt, rLe, rGt, rGe, rEqJ, rNeJ, rLtJ, rLeJ, rGtJ, rGeJ, bi_zfi, bi_ne, bi_1, bi_0, zfi_int, zfi_long, e0, nI_0]
        · cases c2 : k.testBit (rtN τ i)
          · cases c3 : leQ g (rtN τ i) k
            · have e0 : mrC g τ i k = 0 := by simp [mrC, c1, c2, c3]
              simp (disch := omega) [↓SW_sQ, ↓SW_sIf, ↓SW_sSk, ↓SW_sRv, ↓SW_sCo, ↓SW_sBr, ↓SW_stI, ↓SW_stA, ↓SW_stJ, ↓SW_inc, ↓SW_pF, ↓SW_fO, ↓SW_aS, ↓SW_aOI, ↓SW_aOJ, ↓SW_exs, ↓SW_sRe, ↓SW_sRr, ↓SW_exv, ↓BW_v, ↓cI_a, ↓cJ_a, ↓cN_a, ↓sC_a, ↓vI_a, ↓vJ_a, ↓vA_a, ↓opI_a, ↓opJ_a, ↓lshl_a, ↓i2l_a, ↓l2i_a, ↓i2b_a, ↓gF_a, ↓aL_a, ↓aN_a, ↓icall_a, ↓cst_a, ↓nw_a, ↓nA_a, ↓cnd_a, ↓bI_a, ↓bJ_a, ↓bNull_a, ↓bNNull_a, ↓bX_a, ↓bA_a, ↓bO_a, ↓bN_a, ↓sSk_a, ↓stI_a, ↓stA_a, ↓stJ_a, ↓inc_a, ↓pF_a, ↓aS_a, ↓fO_a, ↓aOI_a, ↓aOJ_a, ↓exs_a, ↓sRe_a, ↓sRr_a, ↓sRv_a, ↓sCo_a, ↓sBr_a, ↓mA2_a, ↓mA3_a, ↓iadd_a, ↓isub_a, ↓imul_a, ↓iand_a, ↓ior_a, ↓ixor_a, ↓ishl_a, ↓ishr_a, ↓iushr_a, ↓idiv_a, ↓irem_a, ↓ladd_a, ↓lsub_a, ↓lmul_a, ↓land_a, ↓lor_a, ↓ldiv_a, ↓lrem_a, ↓evs_n, ↓evs_a, ↓sK_a, ↓oB_v, List.getElem?_cons_zero, List.getElem?_cons_succ, cat_i, cat_l, cat_r, cat_n, zfi_b0, zfi_b1, ite_mm, ite_vi, ite_vj, ite_and, ite_or, stl1, stl2, zlo, zex, rEq, rNe, rLt, rLe, rGt, rGe, rEqJ, rNeJ, rLtJ, rLeJ, rGtJ, rGeJ, bi_zfi, bi_ne, bi_1, bi_0, zfi_int, zfi_long, FX4_has_eq, c2, hT2.1, fR hT2 25 13 rfl rfl, fK hT2 25 13 100 rfl rfl rfl, fL hT2 25 13 10 rfl rfl rfl, fA hT2 25 13 0 rfl (by decide) rfl, q25, nf_cl, nf_zin, n_and, leI hI.w, c3, e0, nI_0]
            · have e0 : mrC g τ i k = gcl g (rpN τ i) (rtN τ i) := by simp [mrC, c1, c2, c3]
              simp (disch := omega) [↓SW_sQ, ↓SW_sIf, ↓SW_sSk, ↓SW_sRv, ↓SW_sCo, ↓SW_sBr, ↓SW_stI, ↓SW_stA, ↓SW_stJ, ↓SW_inc, ↓SW_pF, ↓SW_fO, ↓SW_aS, ↓SW_aOI, ↓SW_aOJ, ↓SW_exs, ↓SW_sRe, ↓SW_sRr, ↓SW_exv, ↓BW_v, ↓cI_a, ↓cJ_a, ↓cN_a, ↓sC_a, ↓vI_a, ↓vJ_a, ↓vA_a, ↓opI_a, ↓opJ_a, ↓lshl_a, ↓i2l_a, ↓l2i_a, ↓i2b_a, ↓gF_a, ↓aL_a, ↓aN_a, ↓icall_a, ↓cst_a, ↓nw_a, ↓nA_a, ↓cnd_a, ↓bI_a, ↓bJ_a, ↓bNull_a, ↓bNNull_a, ↓bX_a, ↓bA_a, ↓bO_a, ↓bN_a, ↓sSk_a, ↓stI_a, ↓stA_a, ↓stJ_a, ↓inc_a, ↓pF_a, ↓aS_a, ↓fO_a, ↓aOI_a, ↓aOJ_a, ↓exs_a, ↓sRe_a, ↓sRr_a, ↓sRv_a, ↓sCo_a, ↓sBr_a, ↓mA2_a, ↓mA3_a, ↓iadd_a, ↓isub_a, ↓imul_a, ↓iand_a, ↓ior_a, ↓ixor_a, ↓ishl_a, ↓ishr_a, ↓iushr_a, ↓idiv_a, ↓irem_a, ↓ladd_a, ↓lsub_a, ↓lmul_a, ↓land_a, ↓lor_a, ↓ldiv_a, ↓lrem_a, ↓evs_n, ↓evs_a, ↓sK_a, ↓oB_v, List.getElem?_cons_zero, List.getElem?_cons_succ, cat_i, cat_l, cat_r, cat_n, zfi_b0, zfi_b1, ite_mm, ite_vi, ite_vj, ite_and, ite_or, stl1, stl2, zlo, zex, rEq, rNe, rLt, rLe, rGt, rGe, rEqJ, rNeJ, rLtJ, rLeJ, rGtJ, rGeJ, bi_zfi, bi_ne, bi_1, bi_0, zfi_int, zfi_long, FX4_has_eq, c2, hT2.1, fR hT2 25 13 rfl rfl, fK hT2 25 13 100 rfl rfl rfl, fL hT2 25 13 10 rfl rfl rfl, fA hT2 25 13 0 rfl (by decide) rfl, q25, nf_cl, nf_zin, n_and, leI hI.w, c3, e0, q1]
          · have e0 : mrC g τ i k = 0 := by simp [mrC, c1, c2]
            simp (disch := omega) [↓SW_sQ, ↓SW_sIf, ↓SW_sSk, ↓SW_sRv, ↓SW_sCo, ↓SW_sBr, ↓SW_stI, ↓SW_stA, ↓SW_stJ, ↓SW_inc, ↓SW_pF, ↓SW_fO, ↓SW_aS, ↓SW_aOI, ↓SW_aOJ, ↓SW_exs, ↓SW_sRe, ↓SW_sRr, ↓SW_exv, ↓BW_v, ↓cI_a, ↓cJ_a, ↓cN_a, ↓sC_a, ↓vI_a, ↓vJ_a, ↓vA_a, ↓opI_a, ↓opJ_a, ↓lshl_a, ↓i2l_a, ↓l2i_a, ↓i2b_a, ↓gF_a, ↓aL_a, ↓aN_a, ↓icall_a, ↓cst_a, ↓nw_a, ↓nA_a, ↓cnd_a, ↓bI_a, ↓bJ_a, ↓bNull_a, ↓bNNull_a, ↓bX_a, ↓bA_a, ↓bO_a, ↓bN_a, ↓sSk_a, ↓stI_a, ↓stA_a, ↓stJ_a, ↓inc_a, ↓pF_a, ↓aS_a, ↓fO_a, ↓aOI_a, ↓aOJ_a, ↓exs_a, ↓sRe_a, ↓sRr_a, ↓sRv_a, ↓sCo_a, ↓sBr_a, ↓mA2_a, ↓mA3_a, ↓iadd_a, ↓isub_a, ↓imul_a, ↓iand_a, ↓ior_a, ↓ixor_a, ↓ishl_a, ↓ishr_a, ↓iushr_a, ↓idiv_a, ↓irem_a, ↓ladd_a, ↓lsub_a, ↓lmul_a, ↓land_a, ↓lor_a, ↓ldiv_a, ↓lrem_a, ↓evs_n, ↓evs_a, ↓sK_a, ↓oB_v, List.getElem?_cons_zero, List.getElem?_cons_succ, cat_i, cat_l, cat_r, cat_n, zfi_b0, zfi_b1, ite_mm, ite_vi, ite_vj, ite_and, ite_or, stl1, stl2, zlo, zex, rEq, rNe, rLt, rLe, rGt, rGe, rEqJ, rNeJ, rLtJ, rLeJ, rGtJ, rGeJ, bi_zfi, bi_ne, bi_1, bi_0, zfi_int, zfi_long, FX4_has_eq, c2, e0, nI_0]
      rintro _ _ ⟨rfl, rfl⟩
      have q3 := FX4_withFollows_eq hT2 hG2 hI.w (or2_lt hk2 r4) (-1)
      rw [show clo g (-1) (k ||| 2 ^ rtN τ i) = mrG g τ i k from rfl] at q3
      have hng := hN2 (mrG g τ i k) (by omega)
      have hP3 := hP2.B 62 rfl (mrG g τ i k) (lN (N (mrG g τ i k) + mrC g τ i k * mrW g τ i k))
      refine SW_seq (fun L1 μ3 => L1 = [.ref M, .long al, .null, .int (nI i), .int (nI (rpN τ i)), .int (nI (rtN τ i)), .int (bi (thQ g (thN τ) (rpN τ i) (rtN τ i))), .int (nI k), .int (nI (mrC g τ i k))] ∧ TP μ M (uB τ2 62 (mrG g τ i k) (lN (N (mrG g τ i k) + mrC g τ i k * mrW g τ i k))) μ3) ?_ ?_
      · simp (disch := omega) [↓SW_sQ, ↓SW_sIf, ↓SW_sSk, ↓SW_sRv, ↓SW_sCo, ↓SW_sBr, ↓SW_stI, ↓SW_stA, ↓SW_stJ, ↓SW_inc, ↓SW_pF, ↓SW_fO, ↓SW_aS, ↓SW_aOI, ↓SW_aOJ, ↓SW_exs, ↓SW_sRe, ↓SW_sRr, ↓SW_exv, ↓BW_v, ↓cI_a, ↓cJ_a, ↓cN_a, ↓sC_a, ↓vI_a, ↓vJ_a, ↓vA_a, ↓opI_a, ↓opJ_a, ↓lshl_a, ↓i2l_a, ↓l2i_a, ↓i2b_a, ↓gF_a, ↓aL_a, ↓aN_a, ↓icall_a, ↓cst_a, ↓nw_a, ↓nA_a, ↓cnd_a, ↓bI_a, ↓bJ_a, ↓bNull_a, ↓bNNull_a, ↓bX_a, ↓bA_a, ↓bO_a, ↓bN_a, ↓sSk_a, ↓stI_a, ↓stA_a, ↓stJ_a, ↓inc_a, ↓pF_a, ↓aS_a, ↓fO_a, ↓aOI_a, ↓aOJ_a, ↓exs_a, ↓sRe_a, ↓sRr_a, ↓sRv_a, ↓sCo_a, ↓sBr_a, ↓mA2_a, ↓mA3_a, ↓iadd_a, ↓isub_a, ↓imul_a, ↓iand_a, ↓ior_a, ↓ixor_a, ↓ishl_a, ↓ishr_a, ↓iushr_a, ↓idiv_a, ↓irem_a, ↓ladd_a, ↓lsub_a, ↓lmul_a, ↓land_a, ↓lor_a, ↓ldiv_a, ↓lrem_a, ↓evs_n, ↓evs_a, ↓sK_a, ↓oB_v, List.getElem?_cons_zero, List.getElem?_cons_succ, cat_i, cat_l, cat_r, cat_n, zfi_b0, zfi_b1, ite_mm, ite_vi, ite_vj, ite_and, ite_or, stl1, stl2, zlo, zex, rEq, rNe, rLt, rLe, rGt, rGe, rEqJ, rNeJ, rLtJ, rLeJ, rGtJ, rGeJ, bi_zfi, bi_ne, bi_1, bi_0, zfi_int, zfi_long, hT2.1, fR hT2 61 38 rfl rfl, fK hT2 61 38 101 rfl rfl rfl, fL hT2 61 38 1024 rfl rfl rfl, fB hT2 61 38 rfl rfl, fR hT2 62 39 rfl rfl, fK hT2 62 39 101 rfl rfl rfl, fL hT2 62 39 1024 rfl rfl rfl, fB hT2 62 39 rfl rfl, hwk, hng, q3, nf_cl, nf_zin, nf_shl, n_or, lf_i, lf_mul, lN_add, fd_setF, kd_setF, ln_setF, ar_setF, nx_setF, sn_setF, sa_setF, sv_setF, fd_setA, cvA, nar_bi, nar_b0, nar_b1, o_iadd, o_isub, o_ior, o_iand, o_ladd, kd_setA, ln_setA, ar_setA, nx_setA, sn_setA, sa_setA, sv_setA]
        exact hP3
      rintro _ μ3 ⟨rfl, hP3⟩
      have hT3 := hP3.1
      have hS3 : SC τ (uB τ2 62 (mrG g τ i k) (lN (N (mrG g τ i k) + mrC g τ i k * mrW g τ i k))) := hS2.uB (by omega) _ _
      have hwk3 : (uB τ2 62 (mrG g τ i k) (lN (N (mrG g τ i k) + mrC g τ i k * mrW g τ i k))).2.2.2 61 k = lN (mrW g τ i k) := by rw [r_uB, if_neg (by omega)]; exact hwk
      have hnk3 : (uB τ2 62 (mrG g τ i k) (lN (N (mrG g τ i k) + mrC g τ i k * mrW g τ i k))).2.2.2 62 k = lN (N k + if k = mrG g τ i k then mrC g τ i k * mrW g τ i k else 0) := by
        rw [r_uB]
        by_cases c4 : k = mrG g τ i k
        · rw [if_pos ⟨rfl, c4⟩, if_pos c4, ← c4]
        · rw [if_neg (fun h => c4 h.2), if_neg c4]
          exact hN2 k hk
      have hZ : ZE g τ M μ (mrW g τ i) (mrS g τ i (mrW g τ i) k N) (setA μ3 1 (M + 39) k (.long (lN ((N k + if k = mrG g τ i k then mrC g τ i k * mrW g τ i k else 0) + (16 - mrC g τ i k) * mrW g τ i k)))) := by
        refine ⟨_, hS3.uB (j := 62) (by omega) k (lN ((N k + if k = mrG g τ i k then mrC g τ i k * mrW g τ i k else 0) + (16 - mrC g τ i k) * mrW g τ i k)), fun q hq => ?_, fun q hq => ?_, hP3.B 62 rfl _ _⟩
        · rw [r_uB, if_neg (by omega), r_uB, if_neg (by omega)]
          exact hW2 q hq
        · rw [r_uB]
          unfold mrS
          by_cases c5 : q = k
          · rw [if_pos ⟨rfl, c5⟩, if_pos c5, c5]
          · rw [if_neg (fun h => c5 h.2), if_neg c5, r_uB]
            by_cases c6 : q = mrG g τ i k
            · rw [if_pos ⟨rfl, c6⟩, if_pos c6, c6]
              rfl
            · rw [if_neg (fun h => c6 h.2), if_neg c6]
              exact hN2 q hq
      simp (disch := omega) [↓SW_sQ, ↓SW_sIf, ↓SW_sSk, ↓SW_sRv, ↓SW_sCo, ↓SW_sBr, ↓SW_stI, ↓SW_stA, ↓SW_stJ, ↓SW_inc, ↓SW_pF, ↓SW_fO, ↓SW_aS, ↓SW_aOI, ↓SW_aOJ, ↓SW_exs, ↓SW_sRe, ↓SW_sRr, ↓SW_exv, ↓BW_v, ↓cI_a, ↓cJ_a, ↓cN_a, ↓sC_a, ↓vI_a, ↓vJ_a, ↓vA_a, ↓opI_a, ↓opJ_a, ↓lshl_a, ↓i2l_a, ↓l2i_a, ↓i2b_a, ↓gF_a, ↓aL_a, ↓aN_a, ↓icall_a, ↓cst_a, ↓nw_a, ↓nA_a, ↓cnd_a, ↓bI_a, ↓bJ_a, ↓bNull_a, ↓bNNull_a, ↓bX_a, ↓bA_a, ↓bO_a, ↓bN_a, ↓sSk_a, ↓stI_a, ↓stA_a, ↓stJ_a, ↓inc_a, ↓pF_a, ↓aS_a, ↓fO_a, ↓aOI_a, ↓aOJ_a, ↓exs_a, ↓sRe_a, ↓sRr_a, ↓sRv_a, ↓sCo_a, ↓sBr_a, ↓mA2_a, ↓mA3_a, ↓iadd_a, ↓isub_a, ↓imul_a, ↓iand_a, ↓ior_a, ↓ixor_a, ↓ishl_a, ↓ishr_a, ↓iushr_a, ↓idiv_a, ↓irem_a, ↓ladd_a, ↓lsub_a, ↓lmul_a, ↓land_a, ↓lor_a, ↓ldiv_a, ↓lrem_a, ↓evs_n, ↓evs_a, ↓sK_a, ↓oB_v, List.getElem?_cons_zero, List.getElem?_cons_succ, cat_i, cat_l, cat_r, cat_n, zfi_b0, zfi_b1, ite_mm, ite_vi, ite_vj, ite_and, ite_or, stl1, stl2, zlo, zex, rEq, rNe, rLt, rLe, rGt, rGe, rEqJ, rNeJ, rLtJ, rLeJ, rGtJ, rGeJ, bi_zfi, bi_ne, bi_1, bi_0, zfi_int, zfi_long, -Prod.exists, hT3.1, fR hT3 61 38 rfl rfl, fK hT3 61 38 101 rfl rfl rfl, fL hT3 61 38 1024 rfl rfl rfl, fB hT3 61 38 rfl rfl, fR hT3 62 39 rfl rfl, fK hT3 62 39 101 rfl rfl rfl, fL hT3 62 39 1024 rfl rfl rfl, fB hT3 62 39 rfl rfl, hwk3, hnk3, nf_cl, nf_zin, nf_sl16, nf_ar1, lf_i, lf_mul, lN_add, fd_setF, kd_setF, ln_setF, ar_setF, nx_setF, sn_setF, sa_setF, sv_setF, fd_setA, cvA, nar_bi, nar_b0, nar_b1, o_iadd, o_isub, o_ior, o_iand, o_ladd, kd_setA, ln_setA, ar_setA, nx_setA, sn_setA, sa_setA, sv_setA]
      exact hZ
  · rintro N L μ2 ⟨hE2, j8, hj8, rfl⟩
    simp (disch := omega) [↓SW_sQ, ↓SW_sIf, ↓SW_sSk, ↓SW_sRv, ↓SW_sCo, ↓SW_sBr, ↓SW_stI, ↓SW_stA, ↓SW_stJ, ↓SW_inc, ↓SW_pF, ↓SW_fO, ↓SW_aS, ↓SW_aOI, ↓SW_aOJ, ↓SW_exs, ↓SW_sRe, ↓SW_sRr, ↓SW_exv, ↓BW_v, ↓cI_a, ↓cJ_a, ↓cN_a, ↓sC_a, ↓vI_a, ↓vJ_a, ↓vA_a, ↓opI_a, ↓opJ_a, ↓lshl_a, ↓i2l_a, ↓l2i_a, ↓i2b_a, ↓gF_a, ↓aL_a, ↓aN_a, ↓icall_a, ↓cst_a, ↓nw_a, ↓nA_a, ↓cnd_a, ↓bI_a, ↓bJ_a, ↓bNull_a, ↓bNNull_a, ↓bX_a, ↓bA_a, ↓bO_a, ↓bN_a, ↓sSk_a, ↓stI_a, ↓stA_a, ↓stJ_a, ↓inc_a, ↓pF_a, ↓aS_a, ↓fO_a, ↓aOI_a, ↓aOJ_a, ↓exs_a, ↓sRe_a, ↓sRr_a, ↓sRv_a, ↓sCo_a, ↓sBr_a, ↓mA2_a, ↓mA3_a, ↓iadd_a, ↓isub_a, ↓imul_a, ↓iand_a, ↓ior_a, ↓ixor_a, ↓ishl_a, ↓ishr_a, ↓iushr_a, ↓idiv_a, ↓irem_a, ↓ladd_a, ↓lsub_a, ↓lmul_a, ↓land_a, ↓lor_a, ↓ldiv_a, ↓lrem_a, ↓evs_n, ↓evs_a, ↓sK_a, ↓oB_v, List.getElem?_cons_zero, List.getElem?_cons_succ, cat_i, cat_l, cat_r, cat_n, zfi_b0, zfi_b1, ite_mm, ite_vi, ite_vj, ite_and, ite_or, stl1, stl2, zlo, zex, rEq, rNe, rLt, rLe, rGt, rGe, rEqJ, rNeJ, rLtJ, rLeJ, rGtJ, rGeJ, bi_zfi, bi_ne, bi_1, bi_0, zfi_int, zfi_long, nf_add, nf_mul, nf_sub, nf_lt, nf_le, nf_eq, nf_cl, nf_zin, nf_shl, nf_bit, nf_m1, nf_m1', nf_bi0, nf_ltr0, nf_ltl0, nf_ler0, nf_lel0, nf_eqr0, nf_eql0, nf_al1, nf_ar1, nf_sr1, nf_ltr1, nf_ltl1, nf_ler1, nf_lel1, nf_eqr1, nf_eql1, nf_ml2, nf_mr2, nf_al2, nf_ar2, nf_sr2, nf_ltr2, nf_ltl2, nf_ler2, nf_lel2, nf_eqr2, nf_eql2, nf_ml3, nf_mr3, nf_al3, nf_ar3, nf_sr3, nf_ltr3, nf_ltl3, nf_ler3, nf_lel3, nf_eqr3, nf_eql3, nf_ml4, nf_mr4, nf_al4, nf_ar4, nf_sr4, nf_ltr4, nf_ltl4, nf_ler4, nf_lel4, nf_eqr4, nf_eql4, nf_ml8, nf_mr8, nf_ltr8, nf_ltl8, nf_ler8, nf_lel8, nf_eqr8, nf_eql8, nf_ml10, nf_mr10, nf_al10, nf_ar10, nf_sr10, nf_ltr10, nf_ltl10, nf_ler10, nf_lel10, nf_eqr10, nf_eql10, nf_ltr12, nf_ltl12, nf_ler12, nf_lel12, nf_eqr12, nf_eql12, nf_ltr14, nf_ltl14, nf_ler14, nf_lel14, nf_eqr14, nf_eql14, nf_ml16, nf_mr16, nf_al16, nf_ar16, nf_sr16, nf_sl16, nf_ltr16, nf_ltl16, nf_ler16, nf_lel16, nf_eqr16, nf_eql16, nf_al20, nf_ar20, nf_sr20, nf_ltr20, nf_ltl20, nf_ler20, nf_lel20, nf_eqr20, nf_eql20, nf_sl24, nf_ltr24, nf_ltl24, nf_ler24, nf_lel24, nf_eqr24, nf_eql24, nf_sl30, nf_ltr30, nf_ltl30, nf_ler30, nf_lel30, nf_eqr30, nf_eql30, nf_ltr40, nf_ltl40, nf_ler40, nf_lel40, nf_eqr40, nf_eql40, nf_ltr60, nf_ltl60, nf_ler60, nf_lel60, nf_eqr60, nf_eql60, nf_ltr90, nf_ltl90, nf_ler90, nf_lel90, nf_eqr90, nf_eql90, nf_al100, nf_ar100, nf_sr100, nf_ltr100, nf_ltl100, nf_ler100, nf_lel100, nf_eqr100, nf_eql100, nf_ml120, nf_mr120, nf_ltr120, nf_ltl120, nf_ler120, nf_lel120, nf_eqr120, nf_eql120, nf_ml160, nf_mr160, nf_ltr160, nf_ltl160, nf_ler160, nf_lel160, nf_eqr160, nf_eql160, nf_ltr500, nf_ltl500, nf_ler500, nf_lel500, nf_eqr500, nf_eql500, nf_ml1000, nf_mr1000, nf_ltr1000, nf_ltl1000, nf_ler1000, nf_lel1000, nf_eqr1000, nf_eql1000, nf_ml1024, nf_mr1024, nf_ltr1024, nf_ltl1024, nf_ler1024, nf_lel1024, nf_eqr1024, nf_eql1024, n_and, n_or, n_dif, n_difc]
  · rintro L μ2 ⟨hE2, j8, hj8, rfl⟩
    rw [← mrW_s] at hE2
    first | exact ⟨rfl, hE2, _, rfl, _, hj8, rfl⟩ | exact ⟨rfl, hE2, _, rfl, hj8⟩ | exact ⟨rfl, hE2, _, _, rfl, hj8, rfl⟩
