set_option maxRecDepth 100000
/-! for sure: an order of the best heap -/
def enF (g : Tg) (τ : Tt) (b : Nat) : Nat → Nat → Bool
  | 0, h => decide (h = b)
  | k + 1, h => decide (h = b) || (decide (dif h b = 0) && anyB (fun x => b.testBit x && goQ g τ (-1) h x && enF g τ b k (h ||| 2 ^ x)) (gn g))
def enR (g : Tg) (τ : Tt) (b h : Nat) : Bool := enF g τ b (b - h) h
def enQ1 (g : Tg) (τ : Tt) (b h x : Nat) : Bool := b.testBit x && goQ g τ (-1) h x && enR g τ b (h ||| 2 ^ x)
theorem dif_0 {h b : Nat} : dif h b = 0 ↔ ∀ i, h.testBit i = true → b.testBit i = true := by
  constructor
  · intro h0 i hi
    have : (dif h b).testBit i = false := by rw [h0]; simp
    rw [tb_dif, hi] at this
    simpa using this
  · intro hh
    apply Nat.eq_of_testBit_eq
    intro i
    rw [tb_dif]
    cases c : h.testBit i
    · simp
    · simp [hh i c]
theorem or_up {h x : Nat} (hx : h.testBit x = false) : h < h ||| 2 ^ x := by
  have h1 : h ≤ h ||| 2 ^ x := Nat.left_le_or
  refine Nat.lt_of_le_of_ne h1 ?_
  intro c
  have : (h ||| 2 ^ x).testBit x = true := by rw [Nat.testBit_or, Nat.testBit_two_pow_self]; simp
  rw [← c, hx] at this
  cases this
theorem sub_or {h b x : Nat} (hs : dif h b = 0) (hx : b.testBit x = true) : dif (h ||| 2 ^ x) b = 0 := by
  rw [dif_0] at hs ⊢
  intro i hi
  rw [Nat.testBit_or, Nat.testBit_two_pow] at hi
  simp only [Bool.or_eq_true, decide_eq_true_eq] at hi
  rcases hi with hi | rfl
  · exact hs i hi
  · exact hx
theorem sub_le {h b : Nat} (hs : dif h b = 0) : h ≤ b := Nat.le_of_testBit (dif_0.mp hs)
theorem enF_eq (g : Tg) (τ : Tt) (b : Nat) : ∀ k k' h, b - h ≤ k → b - h ≤ k' → h ≤ b → enF g τ b k h = enF g τ b k' h := by
  intro k
  induction k with
  | zero =>
    intro k' h h1 _ h3
    have : h = b := by omega
    subst this
    cases k' <;> simp [enF]
  | succ k ih =>
    intro k' h h1 h2 h3
    by_cases c : h = b
    · subst c
      cases k' <;> simp [enF]
    · cases k' with
      | zero => omega
      | succ k' =>
        simp only [enF]
        congr 1
        by_cases hs : dif h b = 0
        · congr 1
          refine anyB_congr fun x _ => ?_
          cases c2 : b.testBit x
          · simp
          · cases c3 : goQ g τ (-1) h x
            · simp
            · have c4 : h.testBit x = false := by
                unfold goQ at c3
                simp only [Bool.and_eq_true, Bool.not_eq_true'] at c3
                exact c3.1.1.1
              have e1 := or_up c4
              have e2 := sub_le (sub_or hs c2)
              rw [ih k' (h ||| 2 ^ x) (by omega) (by omega) (by omega)]
        · simp [hs]
theorem enR_eq (g : Tg) (τ : Tt) {b h : Nat} (hb : h ≤ b) : enR g τ b h = (decide (h = b) || (decide (dif h b = 0) && anyB (enQ1 g τ b h) (gn g))) := by
  by_cases c : h = b
  · subst c
    simp [enR, enF]
  · unfold enR
    rw [enF_eq g τ b (b - h) (b - h + 1) h (Nat.le_refl _) (by omega) hb]
    simp only [enF]
    congr 1
    by_cases hs : dif h b = 0
    · congr 1
      refine anyB_congr fun x _ => ?_
      unfold enQ1
      cases c2 : b.testBit x
      · simp
      · cases c3 : goQ g τ (-1) h x
        · simp
        · have c4 : h.testBit x = false := by
            unfold goQ at c3
            simp only [Bool.and_eq_true, Bool.not_eq_true'] at c3
            exact c3.1.1.1
          have e1 := or_up c4
          have e2 := sub_le (sub_or hs c2)
          rw [show enR g τ b (h ||| 2 ^ x) = enF g τ b (b - h) (h ||| 2 ^ x) from enF_eq g τ b _ _ _ (Nat.le_refl _) (by omega) (by omega)]
    · simp [hs]
theorem enR_0 (g : Tg) (τ : Tt) (b : Nat) : ∀ n h, h ≤ n → canR g τ (-1) h = true → dif h b = 0 → enR g τ b h = true → enR g τ b 0 = true := by
  intro n
  induction n with
  | zero =>
    intro h h1 _ _ h4
    have : h = 0 := by omega
    subst this
    exact h4
  | succ n ih =>
    intro h h1 h2 h3 h4
    by_cases c : h = 0
    · subst c
      exact h4
    · rw [canR_eq] at h2
      simp only [c, decide_false, Bool.false_or] at h2
      obtain ⟨t, ht, e⟩ := anyB_t.mp h2
      unfold caQ at e
      simp only [Bool.and_eq_true, decide_eq_true_eq] at e
      obtain ⟨⟨⟨e1, e2⟩, e3⟩, e4⟩ := e
      have l := dif_bit_lt e1
      have s1 : dif (dif h (2 ^ t)) b = 0 := dif_0.mpr fun i hi => by
        rw [tb_dif] at hi
        simp only [Bool.and_eq_true] at hi
        exact dif_0.mp h3 i hi.1
      refine ih (dif h (2 ^ t)) (by omega) e3 s1 ?_
      rw [enR_eq g τ (sub_le s1), s1]
      have e5 : dif h (2 ^ t) ||| 2 ^ t = h := by
        apply Nat.eq_of_testBit_eq
        intro i
        rw [Nat.testBit_or, tb_dif, Nat.testBit_two_pow]
        by_cases c : t = i
        · subst c
          simp [e1]
        · simp [c]
      have : anyB (enQ1 g τ b (dif h (2 ^ t))) (gn g) = true := anyB_t.mpr ⟨t, ht, by
        unfold enQ1
        rw [dif_0.mp h3 t e1, e4, e5, h4]
        rfl⟩
      simp [this]
/-- the walk: from h, asked for the k-th, i gone -/
def orF (g : Tg) (τ : Tt) (b : Nat) (k : Int32) : Nat → Nat → Nat → Int32
  | 0, _, _ => -1
  | f + 1, i, h => if h = b then -1 else match fsN (enQ1 g τ b h) (gn g) with
    | some x => if nI i = k then nI x else orF g τ b k f (i + 1) (h ||| 2 ^ x)
    | none => -1
def orV (g : Tg) (τ : Tt) (x y : Int32) : Int32 := if (decide (0 < gn g) && isN x 91) = true then orF g τ (bhN g τ (-1) x.toNatClampNeg) y (bhN g τ (-1) x.toNatClampNeg) 0 0 else -1
theorem orF_neg (g : Tg) (τ : Tt) (b : Nat) {k : Int32} (hk : k < 0) : ∀ f i h, i + f < 2147483648 → orF g τ b k f i h = -1 := by
  intro f
  induction f with
  | zero => intro i h _; rfl
  | succ f ih =>
    intro i h hi
    simp only [orF]
    split
    · rfl
    · split
      · rw [if_neg, ih _ _ (by omega)]
        rintro rfl
        exact nI_pos (n := i) (by omega) hk
      · rfl
theorem fsN_some {f : Nat → Bool} : ∀ {n i : Nat}, fsN f n = some i → i < n ∧ f i = true ∧ ∀ j, j < i → f j = false := by
  intro n
  induction n with
  | zero => intro i h; cases h
  | succ n ih =>
    intro i h
    simp only [fsN] at h
    split at h
    · rename_i e
      cases h
      obtain ⟨a1, a2, a3⟩ := ih e
      exact ⟨by omega, a2, a3⟩
    · rename_i e
      split at h
      · rename_i e2
        cases h
        refine ⟨by omega, e2, fun j hj => ?_⟩
        cases c : f j
        · rfl
        · exfalso
          have hex : ∃ k, f k = true := ⟨j, c⟩
          obtain ⟨m, hm, hl⟩ := pk_least (fun k => f k = true) hex
          have hmj : m ≤ j := by
            by_cases c2 : m ≤ j
            · exact c2
            · exact absurd c (hl j (by omega))
          have : fsN f n = some m := fsN_a (by omega) hm fun q hq => by simpa using hl q hq
          rw [this] at e
          cases e
      · cases h
theorem fsN_ex {f : Nat → Bool} {n : Nat} (h : anyB f n = true) : ∃ i, fsN f n = some i := by
  cases c : fsN f n with
  | some i => exact ⟨i, rfl⟩
  | none =>
    exfalso
    obtain ⟨j, hj, e⟩ := anyB_t.mp h
    obtain ⟨m, hm, hl⟩ := pk_least (fun k => f k = true) ⟨j, e⟩
    have hmj : m ≤ j := by
      by_cases c2 : m ≤ j
      · exact c2
      · exact absurd e (hl j (by omega))
    have : fsN f n = some m := fsN_a (by omega) hm fun q hq => by simpa using hl q hq
    rw [this] at c
    cases c
theorem FS_59 {g : Tg} {τ τ1 : Tt} {nv : Int32} {n h : Nat} {x : Int32} (hF : FS g τ nv n τ1) : FS g τ nv n (uA τ1 59 h x) := fun j hj => by
  rw [r_uA, if_neg (by omega), r_uA, if_neg (by omega)]
  exact hF j hj
def ENS (g : Tg) (c : Nat) (τ : Tt) (M : Nat) (μ : Mm) (b d : Nat) (μ' : Mm) : Prop := ∃ τ', SC τ τ' ∧ FS g τ (-1) (2 ^ gn g) τ' ∧ (∀ h, d ≤ h → h ≤ b → τ'.2.2.1 59 h = bi (enR g τ b h)) ∧ TP μ M τ' μ'
theorem ord_ends {g : Tg} {c : Nat} {τ : Tt} {M : Nat} {μ μ1 : Mm} (hI : TI g c τ) {b : Nat} (hb2 : b < 2 ^ gn g) {d : Nat} (hd : d < b + 1) {x y : Int32} {j1 j2 : Value} (hj1 : j1.category = 1) (hj2 : j2.category = 1) (hE : ENS g c τ M μ b (d + 1) μ1) :
    SW (sSq (aS 3 (gF 4 59 (vA 0)) (vI 4) (oB (bI rEq (vI 4) (vI 3)))) (sSq (stI 5 (cI 0)) (wh (bA (bA (bI rLt (vI 5) (gF 4 20 (vA 0))) (bN (bX (aL 3 (gF 4 59 (vA 0)) (vI 4))))) (bI rEq (iand (vI 4) (ixor (vI 3) (cI (-1)))) (cI 0))) (aS 3 (gF 4 59 (vA 0)) (vI 4) (oB (bA (bA (bX (icall FX4_has [(1, (vI 3)), (1, (vI 5))])) (bX (icall FX4_goesOn [(1, (vA 0)), (1, (vI 4)), (1, (vI 5))]))) (bX (aL 3 (gF 4 59 (vA 0)) (ior (vI 4) (ishl (cI 1) (vI 5)))))))) (inc 5 1)))) [.ref M, .int x, .int y, .int (nI b), .int (nI d), j1, j2] μ1 (fun o _ L μ' => o = 0 ∧ ENS g c τ M μ b d μ' ∧ ∃ j1 : Value, j1.category = 1 ∧ L = [.ref M, .int x, .int y, .int (nI b), .int (nI d), j1, j2]) := by
  have hb := hI.b
  obtain ⟨τ1, hS1, hF1, hN1, hP1⟩ := hE
  have hT1 := hP1.1
  have hP2 := hP1.A 59 (t := 3) rfl (by decide) d (bi (decide (d = b)))
  have hS2 : SC τ (uA τ1 59 d (bi (decide (d = b)))) := hS1.uA (by omega) _ _
  simp (disch := omega) [↓SW_sQ, ↓SW_sIf, ↓SW_sSk, ↓SW_sRv, ↓SW_sCo, ↓SW_sBr, ↓SW_stI, ↓SW_stA, ↓SW_stJ, ↓SW_inc, ↓SW_pF, ↓SW_fO, ↓SW_aS, ↓SW_aOI, ↓SW_aOJ, ↓SW_exs, ↓SW_sRe, ↓SW_sRr, ↓SW_exv, ↓BW_v, ↓cI_a, ↓cJ_a, ↓cN_a, ↓sC_a, ↓vI_a, ↓vJ_a, ↓vA_a, ↓opI_a, ↓opJ_a, ↓lshl_a, ↓i2l_a, ↓l2i_a, ↓i2b_a, ↓gF_a, ↓aL_a, ↓aN_a, ↓icall_a, ↓cst_a, ↓nw_a, ↓nA_a, ↓cnd_a, ↓bI_a, ↓bJ_a, ↓bNull_a, ↓bNNull_a, ↓bX_a, ↓bA_a, ↓bO_a, ↓bN_a, ↓sSk_a, ↓stI_a, ↓stA_a, ↓stJ_a, ↓inc_a, ↓pF_a, ↓aS_a, ↓fO_a, ↓aOI_a, ↓aOJ_a, ↓exs_a, ↓sRe_a, ↓sRr_a, ↓sRv_a, ↓sCo_a, ↓sBr_a, ↓mA2_a, ↓mA3_a, ↓iadd_a, ↓isub_a, ↓imul_a, ↓iand_a, ↓ior_a, ↓ixor_a, ↓ishl_a, ↓ishr_a, ↓iushr_a, ↓idiv_a, ↓irem_a, ↓ladd_a, ↓lsub_a, ↓lmul_a, ↓land_a, ↓lor_a, ↓ldiv_a, ↓lrem_a, ↓evs_n, ↓evs_a, ↓sK_a, ↓oB_v, List.getElem?_cons_zero, List.getElem?_cons_succ, cat_i, cat_l, cat_r, cat_n, zfi_b0, zfi_b1, ite_mm, ite_vi, ite_vj, ite_and, ite_or, stl1, stl2, zlo, zex, rEq, rNe, rLt, rLe, rGt, rGe, rEqJ, rNeJ, rLtJ, rLeJ, rGtJ, rGeJ, bi_zfi, bi_ne, bi_1, bi_0, zfi_int, zfi_long, -Prod.exists, hT1.1, fR hT1 59 36 rfl rfl, fK hT1 59 36 103 rfl rfl rfl, fL hT1 59 36 1024 rfl rfl rfl, fA hT1 59 36 3 rfl (by decide) rfl, nf_add, nf_mul, nf_sub, nf_lt, nf_le, nf_eq, nf_cl, nf_zin, nf_shl, nf_bit, nf_m1, nf_m1', nf_bi0, nf_ltr0, nf_ltl0, nf_ler0, nf_lel0, nf_eqr0, nf_eql0, nf_al1, nf_ar1, nf_sr1, nf_ltr1, nf_ltl1, nf_ler1, nf_lel1, nf_eqr1, nf_eql1, nf_ml2, nf_mr2, nf_al2, nf_ar2, nf_sr2, nf_ltr2, nf_ltl2, nf_ler2, nf_lel2, nf_eqr2, nf_eql2, nf_ml3, nf_mr3, nf_al3, nf_ar3, nf_sr3, nf_ltr3, nf_ltl3, nf_ler3, nf_lel3, nf_eqr3, nf_eql3, nf_ml4, nf_mr4, nf_al4, nf_ar4, nf_sr4, nf_ltr4, nf_ltl4, nf_ler4, nf_lel4, nf_eqr4, nf_eql4, nf_ml8, nf_mr8, nf_ltr8, nf_ltl8, nf_ler8, nf_lel8, nf_eqr8, nf_eql8, nf_ml10, nf_mr10, nf_al10, nf_ar10, nf_sr10, nf_ltr10, nf_ltl10, nf_ler10, nf_lel10, nf_eqr10, nf_eql10, nf_ltr12, nf_ltl12, nf_ler12, nf_lel12, nf_eqr12, nf_eql12, nf_ltr14, nf_ltl14, nf_ler14, nf_lel14, nf_eqr14, nf_eql14, nf_ml16, nf_mr16, nf_al16, nf_ar16, nf_sr16, nf_sl16, nf_ltr16, nf_ltl16, nf_ler16, nf_lel16, nf_eqr16, nf_eql16, nf_al20, nf_ar20, nf_sr20, nf_ltr20, nf_ltl20, nf_ler20, nf_lel20, nf_eqr20, nf_eql20, nf_sl24, nf_ltr24, nf_ltl24, nf_ler24, nf_lel24, nf_eqr24, nf_eql24, nf_sl30, nf_ltr30, nf_ltl30, nf_ler30, nf_lel30, nf_eqr30, nf_eql30, nf_ltr40, nf_ltl40, nf_ler40, nf_lel40, nf_eqr40, nf_eql40, nf_ltr60, nf_ltl60, nf_ler60, nf_lel60, nf_eqr60, nf_eql60, nf_ltr90, nf_ltl90, nf_ler90, nf_lel90, nf_eqr90, nf_eql90, nf_al100, nf_ar100, nf_sr100, nf_ltr100, nf_ltl100, nf_ler100, nf_lel100, nf_eqr100, nf_eql100, nf_ml120, nf_mr120, nf_ltr120, nf_ltl120, nf_ler120, nf_lel120, nf_eqr120, nf_eql120, nf_ml160, nf_mr160, nf_ltr160, nf_ltl160, nf_ler160, nf_lel160, nf_eqr160, nf_eql160, nf_ltr500, nf_ltl500, nf_ler500, nf_lel500, nf_eqr500, nf_eql500, nf_ml1000, nf_mr1000, nf_ltr1000, nf_ltl1000, nf_ler1000, nf_lel1000, nf_eqr1000, nf_eql1000, nf_ml1024, nf_mr1024, nf_ltr1024, nf_ltl1024, nf_ler1024, nf_lel1024, nf_eqr1024, nf_eql1024, n_and, n_or, n_dif, n_difc, fd_setF, kd_setF, ln_setF, ar_setF, nx_setF, sn_setF, sa_setF, sv_setF, fd_setA, cvA, nar_bi, nar_b0, nar_b1, o_iadd, o_isub, o_ior, o_iand, o_ladd, kd_setA, ln_setA, ar_setA, nx_setA, sn_setA, sa_setA, sv_setA, hj1]
  refine SW_inv (fun t L μ' => t ≤ gn g ∧ (∃ τ', SC τ τ' ∧ FS g τ (-1) (2 ^ gn g) τ' ∧ (∀ h, d + 1 ≤ h → h ≤ b → τ'.2.2.1 59 h = bi (enR g τ b h)) ∧ τ'.2.2.1 59 d = bi (decide (d = b) || (decide (dif d b = 0) && anyB (enQ1 g τ b d) t)) ∧ TP μ M τ' μ') ∧ L = [.ref M, .int x, .int y, .int (nI b), .int (nI d), .int (nI t), j2]) (fun t => gn g - t) (a := 0) (by omega) ⟨by omega, ⟨_, hS2, FS_59 hF1, fun h q1 q2 => ?_, ?_, hP2⟩, by simp [nI_0]⟩ ?_
  · rw [r_uA, if_neg (by omega)]
    exact hN1 h q1 q2
  · rw [r_uA, if_pos ⟨rfl, rfl⟩]
    simp [anyB]
  rintro t L μ3 ⟨ht, ⟨τ3, hS3, hF3, hN3, h59, hP3⟩, rfl⟩
  have hT3 := hP3.1
  have hG3 := hS3.gt hI.g
  have q20 := gt20 hG3
  have fin : (decide (d = b) || (decide (dif d b = 0) && anyB (enQ1 g τ b d) t)) = enR g τ b d → ENS g c τ M μ b d μ3 := by
    intro e
    refine ⟨τ3, hS3, hF3, fun h q1 q2 => ?_, hP3⟩
    by_cases c : h = d
    · rw [c, h59, e]
    · exact hN3 h (by omega) q2
  have eR := enR_eq g τ (b := b) (h := d) (by omega)
  by_cases cs : dif d b = 0
  · rw [cs] at h59 fin eR
    simp only [decide_true, Bool.true_and] at h59 fin eR
    generalize hA : (decide (d = b) || anyB (enQ1 g τ b d) t) = A at *
    cases A
    · by_cases c1 : t < gn g
      · have e9 : (decide (d = b) || (decide (dif d b = 0) && anyB (enQ1 g τ b d) (t + 1))) = enQ1 g τ b d t := by
          have : (decide (d = b) || (decide (dif d b = 0) && anyB (enQ1 g τ b d) (t + 1))) = ((decide (d = b) || anyB (enQ1 g τ b d) t) || enQ1 g τ b d t) := by simp [anyB, Bool.or_assoc, cs]
          rw [this, hA]
          rfl
        simp only [cs, decide_true, Bool.true_and] at e9
        have hP4 := hP3.A 59 (t := 3) rfl (by decide) d (bi (enQ1 g τ b d t))
        have hS4 : SC τ (uA τ3 59 d (bi (enQ1 g τ b d t))) := hS3.uA (by omega) _ _
        have fin2 : ∃ τ', SC τ τ' ∧ FS g τ (-1) (2 ^ gn g) τ' ∧ (∀ h, d + 1 ≤ h → h ≤ b → τ'.2.2.1 59 h = bi (enR g τ b h)) ∧ τ'.2.2.1 59 d = bi (decide (d = b) || anyB (enQ1 g τ b d) (t + 1)) ∧ TP μ M τ' (setA μ3 3 (M + 36) d (.int (bi (enQ1 g τ b d t)))) := by
          refine ⟨_, hS4, FS_59 hF3, fun h q1 q2 => ?_, ?_, hP4⟩
          · rw [r_uA, if_neg (by omega)]
            exact hN3 h q1 q2
          · rw [r_uA, if_pos ⟨rfl, rfl⟩, e9]
        have e10 : (oB (bA (bA (bX (icall FX4_has [(1, (vI 3)), (1, (vI 5))])) (bX (icall FX4_goesOn [(1, (vA 0)), (1, (vI 4)), (1, (vI 5))]))) (bX (aL 3 (gF 4 59 (vA 0)) (ior (vI 4) (ishl (cI 1) (vI 5))))))) [.ref M, .int x, .int y, .int (nI b), .int (nI d), .int (nI t), j2] μ3 = some (.int (bi (enQ1 g τ b d t)), μ3) := by
          unfold enQ1
          have hd2 : d < 2 ^ gn g := by omega
          have q5 := FX4_goesOn_eq hT3 hS3 hI (-1) hd2 c1 (hF3 d hd2).1
          cases c2 : b.testBit t
          · simp (disch := omega) [↓SW_sQ, ↓SW_sIf, ↓SW_sSk, ↓SW_sRv, ↓SW_sCo, ↓SW_sBr, ↓SW_stI, ↓SW_stA, ↓SW_stJ, ↓SW_inc, ↓SW_pF, ↓SW_fO, ↓SW_aS, ↓SW_aOI, ↓SW_aOJ, ↓SW_exs, ↓SW_sRe, ↓SW_sRr, ↓SW_exv, ↓BW_v, ↓cI_a, ↓cJ_a, ↓cN_a, ↓sC_a, ↓vI_a, ↓vJ_a, ↓vA_a, ↓opI_a, ↓opJ_a, ↓lshl_a, ↓i2l_a, ↓l2i_a, ↓i2b_a, ↓gF_a, ↓aL_a, ↓aN_a, ↓icall_a, ↓cst_a, ↓nw_a, ↓nA_a, ↓cnd_a, ↓bI_a, ↓bJ_a, ↓bNull_a, ↓bNNull_a, ↓bX_a, ↓bA_a, ↓bO_a, ↓bN_a, ↓sSk_a, ↓stI_a, ↓stA_a, ↓stJ_a, ↓inc_a, ↓pF_a, ↓aS_a, ↓fO_a, ↓aOI_a, ↓aOJ_a, ↓exs_a, ↓sRe_a, ↓sRr_a, ↓sRv_a, ↓sCo_a, ↓sBr_a, ↓mA2_a, ↓mA3_a, ↓iadd_a, ↓isub_a, ↓imul_a, ↓iand_a, ↓ior_a, ↓ixor_a, ↓ishl_a, ↓ishr_a, ↓iushr_a, ↓idiv_a, ↓irem_a, ↓ladd_a, ↓lsub_a, ↓lmul_a, ↓land_a, ↓lor_a, ↓ldiv_a, ↓lrem_a, ↓evs_n, ↓evs_a, ↓sK_a, ↓oB_v, List.getElem?_cons_zero, List.getElem?_cons_succ, cat_i, cat_l, cat_r, cat_n, zfi_b0, zfi_b1, ite_mm, ite_vi, ite_vj, ite_and, ite_or, stl1, stl2, zlo, zex, rEq, rNe, rLt, rLe, rGt, rGe, rEqJ, rNeJ, rLtJ, rLeJ, rGtJ, rGeJ, bi_zfi, bi_ne, bi_1, bi_0, zfi_int, zfi_long, nf_add, nf_mul, nf_sub, nf_lt, nf_le, nf_eq, nf_cl, nf_zin, nf_shl, nf_bit, nf_m1, nf_m1', nf_bi0, nf_ltr0, nf_ltl0, nf_ler0, nf_lel0, nf_eqr0, nf_eql0, nf_al1, nf_ar1, nf_sr1, nf_ltr1, nf_ltl1, nf_ler1, nf_lel1, nf_eqr1, nf_eql1, nf_ml2, nf_mr2, nf_al2, nf_ar2, nf_sr2, nf_ltr2, nf_ltl2, nf_ler2, nf_lel2, nf_eqr2, nf_eql2, nf_ml3, nf_mr3, nf_al3, nf_ar3, nf_sr3, nf_ltr3, nf_ltl3, nf_ler3, nf_lel3, nf_eqr3, nf_eql3, nf_ml4, nf_mr4, nf_al4, nf_ar4, nf_sr4, nf_ltr4, nf_ltl4, nf_ler4, nf_lel4, nf_eqr4, nf_eql4, nf_ml8, nf_mr8, nf_ltr8, nf_ltl8, nf_ler8, nf_lel8, nf_eqr8, nf_eql8, nf_ml10, nf_mr10, nf_al10, nf_ar10, nf_sr10, nf_ltr10, nf_ltl10, nf_ler10, nf_lel10, nf_eqr10, nf_eql10, nf_ltr12, nf_ltl12, nf_ler12, nf_lel12, nf_eqr12, nf_eql12, nf_ltr14, nf_ltl14, nf_ler14, nf_lel14, nf_eqr14, nf_eql14, nf_ml16, nf_mr16, nf_al16, nf_ar16, nf_sr16, nf_sl16, nf_ltr16, nf_ltl16, nf_ler16, nf_lel16, nf_eqr16, nf_eql16, nf_al20, nf_ar20, nf_sr20, nf_ltr20, nf_ltl20, nf_ler20, nf_lel20, nf_eqr20, nf_eql20, nf_sl24, nf_ltr24, nf_ltl24, nf_ler24, nf_lel24, nf_eqr24, nf_eql24, nf_sl30, nf_ltr30, nf_ltl30, nf_ler30, nf_lel30, nf_eqr30, nf_eql30, nf_ltr40, nf_ltl40, nf_ler40, nf_lel40, nf_eqr40, nf_eql40, nf_ltr60, nf_ltl60, nf_ler60, nf_lel60, nf_eqr60, nf_eql60, nf_ltr90, nf_ltl90, nf_ler90, nf_lel90, nf_eqr90, nf_eql90, nf_al100, nf_ar100, nf_sr100, nf_ltr100, nf_ltl100, nf_ler100, nf_lel100, nf_eqr100, nf_eql100, nf_ml120, nf_mr120, nf_ltr120, nf_ltl120, nf_ler120, nf_lel120, nf_eqr120, nf_eql120, nf_ml160, nf_mr160, nf_ltr160, nf_ltl160, nf_ler160, nf_lel160, nf_eqr160, nf_eql160, nf_ltr500, nf_ltl500, nf_ler500, nf_lel500, nf_eqr500, nf_eql500, nf_ml1000, nf_mr1000, nf_ltr1000, nf_ltl1000, nf_ler1000, nf_lel1000, nf_eqr1000, nf_eql1000, nf_ml1024, nf_mr1024, nf_ltr1024, nf_ltl1024, nf_ler1024, nf_lel1024, nf_eqr1024, nf_eql1024, n_and, n_or, n_dif, n_difc, FX4_has_eq, c2]
          · cases c3 : goQ g τ (-1) d t
            · simp (disch := omega) [↓SW_sQ, ↓SW_sIf, ↓SW_sSk, ↓SW_sRv, ↓SW_sCo, ↓SW_sBr, ↓SW_stI, ↓SW_stA, ↓SW_stJ, ↓SW_inc, ↓SW_pF, ↓SW_fO, ↓SW_aS, ↓SW_aOI, ↓SW_aOJ, ↓SW_exs, ↓SW_sRe, ↓SW_sRr, ↓SW_exv, ↓BW_v, ↓cI_a, ↓cJ_a, ↓cN_a, ↓sC_a, ↓vI_a, ↓vJ_a, ↓vA_a, ↓opI_a, ↓opJ_a, ↓lshl_a, ↓i2l_a, ↓l2i_a, ↓i2b_a, ↓gF_a, ↓aL_a, ↓aN_a, ↓icall_a, ↓cst_a, ↓nw_a, ↓nA_a, ↓cnd_a, ↓bI_a, ↓bJ_a, ↓bNull_a, ↓bNNull_a, ↓bX_a, ↓bA_a, ↓bO_a, ↓bN_a, ↓sSk_a, ↓stI_a, ↓stA_a, ↓stJ_a, ↓inc_a, ↓pF_a, ↓aS_a, ↓fO_a, ↓aOI_a, ↓aOJ_a, ↓exs_a, ↓sRe_a, ↓sRr_a, ↓sRv_a, ↓sCo_a, ↓sBr_a, ↓mA2_a, ↓mA3_a, ↓iadd_a, ↓isub_a, ↓imul_a, ↓iand_a, ↓ior_a, ↓ixor_a, ↓ishl_a, ↓ishr_a, ↓iushr_a, ↓idiv_a, ↓irem_a, ↓ladd_a, ↓lsub_a, ↓lmul_a, ↓land_a, ↓lor_a, ↓ldiv_a, ↓lrem_a, ↓evs_n, ↓evs_a, ↓sK_a, ↓oB_v, List.getElem?_cons_zero, List.getElem?_cons_succ, cat_i, cat_l, cat_r, cat_n, zfi_b0, zfi_b1, ite_mm, ite_vi, ite_vj, ite_and, ite_or, stl1, stl2, zlo, zex, rEq, rNe, rLt, rLe, rGt, rGe, rEqJ, rNeJ, rLtJ, rLeJ, rGtJ, rGeJ, bi_zfi, bi_ne, bi_1, bi_0, zfi_int, zfi_long, nf_add, nf_mul, nf_sub, nf_lt, nf_le, nf_eq, nf_cl, nf_zin, nf_shl, nf_bit, nf_m1, nf_m1', nf_bi0, nf_ltr0, nf_ltl0, nf_ler0, nf_lel0, nf_eqr0, nf_eql0, nf_al1, nf_ar1, nf_sr1, nf_ltr1, nf_ltl1, nf_ler1, nf_lel1, nf_eqr1, nf_eql1, nf_ml2, nf_mr2, nf_al2, nf_ar2, nf_sr2, nf_ltr2, nf_ltl2, nf_ler2, nf_lel2, nf_eqr2, nf_eql2, nf_ml3, nf_mr3, nf_al3, nf_ar3, nf_sr3, nf_ltr3, nf_ltl3, nf_ler3, nf_lel3, nf_eqr3, nf_eql3, nf_ml4, nf_mr4, nf_al4, nf_ar4, nf_sr4, nf_ltr4, nf_ltl4, nf_ler4, nf_lel4, nf_eqr4, nf_eql4, nf_ml8, nf_mr8, nf_ltr8, nf_ltl8, nf_ler8, nf_lel8, nf_eqr8, nf_eql8, nf_ml10, nf_mr10, nf_al10, nf_ar10, nf_sr10, nf_ltr10, nf_ltl10, nf_ler10, nf_lel10, nf_eqr10, nf_eql10, nf_ltr12, nf_ltl12, nf_ler12, nf_lel12, nf_eqr12, nf_eql12, nf_ltr14, nf_ltl14, nf_ler14, nf_lel14, nf_eqr14, nf_eql14, nf_ml16, nf_mr16, nf_al16, nf_ar16, nf_sr16, nf_sl16, nf_ltr16, nf_ltl16, nf_ler16, nf_lel16, nf_eqr16, nf_eql16, nf_al20, nf_ar20, nf_sr20, nf_ltr20, nf_ltl20, nf_ler20, nf_lel20, nf_eqr20, nf_eql20, nf_sl24, nf_ltr24, nf_ltl24, nf_ler24, nf_lel24, nf_eqr24, nf_eql24, nf_sl30, nf_ltr30, nf_ltl30, nf_ler30, nf_lel30, nf_eqr30, nf_eql30, nf_ltr40, nf_ltl40, nf_ler40, nf_lel40, nf_eqr40, nf_eql40, nf_ltr60, nf_ltl60, nf_ler60, nf_lel60, nf_eqr60, nf_eql60, nf_ltr90, nf_ltl90, nf_ler90, nf_lel90, nf_eqr90, nf_eql90, nf_al100, nf_ar100, nf_sr100, nf_ltr100, nf_ltl100, nf_ler100, nf_lel100, nf_eqr100, nf_eql100, nf_ml120, nf_mr120, nf_ltr120, nf_ltl120, nf_ler120, nf_lel120, nf_eqr120, nf_eql120, nf_ml160, nf_mr160, nf_ltr160, nf_ltl160, nf_ler160, nf_lel160, nf_eqr160, nf_eql160, nf_ltr500, nf_ltl500, nf_ler500, nf_lel500, nf_eqr500, nf_eql500, nf_ml1000, nf_mr1000, nf_ltr1000, nf_ltl1000, nf_ler1000, nf_lel1000, nf_eqr1000, nf_eql1000, nf_ml1024, nf_mr1024, nf_ltr1024, nf_ltl1024, nf_ler1024, nf_lel1024, nf_eqr1024, nf_eql1024, n_and, n_or, n_dif, n_difc, FX4_has_eq, c2, c3, q5]
            · have c4 : d.testBit t = false := by
                unfold goQ at c3
                simp only [Bool.and_eq_true, Bool.not_eq_true'] at c3
                exact c3.1.1.1
              have k1 := or_up c4
              have k2 := sub_le (sub_or cs c2)
              have k3 := hN3 (d ||| 2 ^ t) (by omega) k2
              simp (disch := omega) [↓SW_sQ, ↓SW_sIf, ↓SW_sSk, ↓SW_sRv, ↓SW_sCo, ↓SW_sBr, ↓SW_stI, ↓SW_stA, ↓SW_stJ, ↓SW_inc, ↓SW_pF, ↓SW_fO, ↓SW_aS, ↓SW_aOI, ↓SW_aOJ, ↓SW_exs, ↓SW_sRe, ↓SW_sRr, ↓SW_exv, ↓BW_v, ↓cI_a, ↓cJ_a, ↓cN_a, ↓sC_a, ↓vI_a, ↓vJ_a, ↓vA_a, ↓opI_a, ↓opJ_a, ↓lshl_a, ↓i2l_a, ↓l2i_a, ↓i2b_a, ↓gF_a, ↓aL_a, ↓aN_a, ↓icall_a, ↓cst_a, ↓nw_a, ↓nA_a, ↓cnd_a, ↓bI_a, ↓bJ_a, ↓bNull_a, ↓bNNull_a, ↓bX_a, ↓bA_a, ↓bO_a, ↓bN_a, ↓sSk_a, ↓stI_a, ↓stA_a, ↓stJ_a, ↓inc_a, ↓pF_a, ↓aS_a, ↓fO_a, ↓aOI_a, ↓aOJ_a, ↓exs_a, ↓sRe_a, ↓sRr_a, ↓sRv_a, ↓sCo_a, ↓sBr_a, ↓mA2_a, ↓mA3_a, ↓iadd_a, ↓isub_a, ↓imul_a, ↓iand_a, ↓ior_a, ↓ixor_a, ↓ishl_a, ↓ishr_a, ↓iushr_a, ↓idiv_a, ↓irem_a, ↓ladd_a, ↓lsub_a, ↓lmul_a, ↓land_a, ↓lor_a, ↓ldiv_a, ↓lrem_a, ↓evs_n, ↓evs_a, ↓sK_a, ↓oB_v, List.getElem?_cons_zero, List.getElem?_cons_succ, cat_i, cat_l, cat_r, cat_n, zfi_b0, zfi_b1, ite_mm, ite_vi, ite_vj, ite_and, ite_or, stl1, stl2, zlo, zex, rEq, rNe, rLt, rLe, rGt, rGe, rEqJ, rNeJ, rLtJ, rLeJ, rGtJ, rGeJ, bi_zfi, bi_ne, bi_1, bi_0, zfi_int, zfi_long, hT3.1, fR hT3 59 36 rfl rfl, fK hT3 59 36 103 rfl rfl rfl, fL hT3 59 36 1024 rfl rfl rfl, fA hT3 59 36 3 rfl (by decide) rfl, nf_add, nf_mul, nf_sub, nf_lt, nf_le, nf_eq, nf_cl, nf_zin, nf_shl, nf_bit, nf_m1, nf_m1', nf_bi0, nf_ltr0, nf_ltl0, nf_ler0, nf_lel0, nf_eqr0, nf_eql0, nf_al1, nf_ar1, nf_sr1, nf_ltr1, nf_ltl1, nf_ler1, nf_lel1, nf_eqr1, nf_eql1, nf_ml2, nf_mr2, nf_al2, nf_ar2, nf_sr2, nf_ltr2, nf_ltl2, nf_ler2, nf_lel2, nf_eqr2, nf_eql2, nf_ml3, nf_mr3, nf_al3, nf_ar3, nf_sr3, nf_ltr3, nf_ltl3, nf_ler3, nf_lel3, nf_eqr3, nf_eql3, nf_ml4, nf_mr4, nf_al4, nf_ar4, nf_sr4, nf_ltr4, nf_ltl4, nf_ler4, nf_lel4, nf_eqr4, nf_eql4, nf_ml8, nf_mr8, nf_ltr8, nf_ltl8, nf_ler8, nf_lel8, nf_eqr8, nf_eql8, nf_ml10, nf_mr10, nf_al10, nf_ar10, nf_sr10, nf_ltr10, nf_ltl10, nf_ler10, nf_lel10, nf_eqr10, nf_eql10, nf_ltr12, nf_ltl12, nf_ler12, nf_lel12, nf_eqr12, nf_eql12, nf_ltr14, nf_ltl14, nf_ler14, nf_lel14, nf_eqr14, nf_eql14, nf_ml16, nf_mr16, nf_al16, nf_ar16, nf_sr16, nf_sl16, nf_ltr16, nf_ltl16, nf_ler16, nf_lel16, nf_eqr16, nf_eql16, nf_al20, nf_ar20, nf_sr20, nf_ltr20, nf_ltl20, nf_ler20, nf_lel20, nf_eqr20, nf_eql20, nf_sl24, nf_ltr24, nf_ltl24, nf_ler24, nf_lel24, nf_eqr24, nf_eql24, nf_sl30, nf_ltr30, nf_ltl30, nf_ler30, nf_lel30, nf_eqr30, nf_eql30, nf_ltr40, nf_ltl40, nf_ler40, nf_lel40, nf_eqr40, nf_eql40, nf_ltr60, nf_ltl60, nf_ler60, nf_lel60, nf_eqr60, nf_eql60, nf_ltr90, nf_ltl90, nf_ler90, nf_lel90, nf_eqr90, nf_eql90, nf_al100, nf_ar100, nf_sr100, nf_ltr100, nf_ltl100, nf_ler100, nf_lel100, nf_eqr100, nf_eql100, nf_ml120, nf_mr120, nf_ltr120, nf_ltl120, nf_ler120, nf_lel120, nf_eqr120, nf_eql120, nf_ml160, nf_mr160, nf_ltr160, nf_ltl160, nf_ler160, nf_lel160, nf_eqr160, nf_eql160, nf_ltr500, nf_ltl500, nf_ler500, nf_lel500, nf_eqr500, nf_eql500, nf_ml1000, nf_mr1000, nf_ltr1000, nf_ltl1000, nf_ler1000, nf_lel1000, nf_eqr1000, nf_eql1000, nf_ml1024, nf_mr1024, nf_ltr1024, nf_ltl1024, nf_ler1024, nf_lel1024, nf_eqr1024, nf_eql1024, n_and, n_or, n_dif, n_difc, FX4_has_eq, c2, c3, q5, k3]
        generalize (oB (bA (bA (bX (icall FX4_has [(1, (vI 3)), (1, (vI 5))])) (bX (icall FX4_goesOn [(1, (vA 0)), (1, (vI 4)), (1, (vI 5))]))) (bX (aL 3 (gF 4 59 (vA 0)) (ior (vI 4) (ishl (cI 1) (vI 5))))))) = X at *
        simp (disch := omega) [↓SW_sQ, ↓SW_sIf, ↓SW_sSk, ↓SW_sRv, ↓SW_sCo, ↓SW_sBr, ↓SW_stI, ↓SW_stA, ↓SW_stJ, ↓SW_inc, ↓SW_pF, ↓SW_fO, ↓SW_aS, ↓SW_aOI, ↓SW_aOJ, ↓SW_exs, ↓SW_sRe, ↓SW_sRr, ↓SW_exv, ↓BW_v, ↓cI_a, ↓cJ_a, ↓cN_a, ↓sC_a, ↓vI_a, ↓vJ_a, ↓vA_a, ↓opI_a, ↓opJ_a, ↓lshl_a, ↓i2l_a, ↓l2i_a, ↓i2b_a, ↓gF_a, ↓aL_a, ↓aN_a, ↓icall_a, ↓cst_a, ↓nw_a, ↓nA_a, ↓cnd_a, ↓bI_a, ↓bJ_a, ↓bNull_a, ↓bNNull_a, ↓bX_a, ↓bA_a, ↓bO_a, ↓bN_a, ↓sSk_a, ↓stI_a, ↓stA_a, ↓stJ_a, ↓inc_a, ↓pF_a, ↓aS_a, ↓fO_a, ↓aOI_a, ↓aOJ_a, ↓exs_a, ↓sRe_a, ↓sRr_a, ↓sRv_a, ↓sCo_a, ↓sBr_a, ↓mA2_a, ↓mA3_a, ↓iadd_a, ↓isub_a, ↓imul_a, ↓iand_a, ↓ior_a, ↓ixor_a, ↓ishl_a, ↓ishr_a, ↓iushr_a, ↓idiv_a, ↓irem_a, ↓ladd_a, ↓lsub_a, ↓lmul_a, ↓land_a, ↓lor_a, ↓ldiv_a, ↓lrem_a, ↓evs_n, ↓evs_a, ↓sK_a, ↓oB_v, List.getElem?_cons_zero, List.getElem?_cons_succ, cat_i, cat_l, cat_r, cat_n, zfi_b0, zfi_b1, ite_mm, ite_vi, ite_vj, ite_and, ite_or, stl1, stl2, zlo, zex, rEq, rNe, rLt, rLe, rGt, rGe, rEqJ, rNeJ, rLtJ, rLeJ, rGtJ, rGeJ, bi_zfi, bi_ne, bi_1, bi_0, zfi_int, zfi_long, -Prod.exists, hT3.1, tvI hT3 20 rfl, tyI 20 rfl, fR hT3 59 36 rfl rfl, fK hT3 59 36 103 rfl rfl rfl, fL hT3 59 36 1024 rfl rfl rfl, fA hT3 59 36 3 rfl (by decide) rfl, q20, h59, nf_add, nf_mul, nf_sub, nf_lt, nf_le, nf_eq, nf_cl, nf_zin, nf_shl, nf_bit, nf_m1, nf_m1', nf_bi0, nf_ltr0, nf_ltl0, nf_ler0, nf_lel0, nf_eqr0, nf_eql0, nf_al1, nf_ar1, nf_sr1, nf_ltr1, nf_ltl1, nf_ler1, nf_lel1, nf_eqr1, nf_eql1, nf_ml2, nf_mr2, nf_al2, nf_ar2, nf_sr2, nf_ltr2, nf_ltl2, nf_ler2, nf_lel2, nf_eqr2, nf_eql2, nf_ml3, nf_mr3, nf_al3, nf_ar3, nf_sr3, nf_ltr3, nf_ltl3, nf_ler3, nf_lel3, nf_eqr3, nf_eql3, nf_ml4, nf_mr4, nf_al4, nf_ar4, nf_sr4, nf_ltr4, nf_ltl4, nf_ler4, nf_lel4, nf_eqr4, nf_eql4, nf_ml8, nf_mr8, nf_ltr8, nf_ltl8, nf_ler8, nf_lel8, nf_eqr8, nf_eql8, nf_ml10, nf_mr10, nf_al10, nf_ar10, nf_sr10, nf_ltr10, nf_ltl10, nf_ler10, nf_lel10, nf_eqr10, nf_eql10, nf_ltr12, nf_ltl12, nf_ler12, nf_lel12, nf_eqr12, nf_eql12, nf_ltr14, nf_ltl14, nf_ler14, nf_lel14, nf_eqr14, nf_eql14, nf_ml16, nf_mr16, nf_al16, nf_ar16, nf_sr16, nf_sl16, nf_ltr16, nf_ltl16, nf_ler16, nf_lel16, nf_eqr16, nf_eql16, nf_al20, nf_ar20, nf_sr20, nf_ltr20, nf_ltl20, nf_ler20, nf_lel20, nf_eqr20, nf_eql20, nf_sl24, nf_ltr24, nf_ltl24, nf_ler24, nf_lel24, nf_eqr24, nf_eql24, nf_sl30, nf_ltr30, nf_ltl30, nf_ler30, nf_lel30, nf_eqr30, nf_eql30, nf_ltr40, nf_ltl40, nf_ler40, nf_lel40, nf_eqr40, nf_eql40, nf_ltr60, nf_ltl60, nf_ler60, nf_lel60, nf_eqr60, nf_eql60, nf_ltr90, nf_ltl90, nf_ler90, nf_lel90, nf_eqr90, nf_eql90, nf_al100, nf_ar100, nf_sr100, nf_ltr100, nf_ltl100, nf_ler100, nf_lel100, nf_eqr100, nf_eql100, nf_ml120, nf_mr120, nf_ltr120, nf_ltl120, nf_ler120, nf_lel120, nf_eqr120, nf_eql120, nf_ml160, nf_mr160, nf_ltr160, nf_ltl160, nf_ler160, nf_lel160, nf_eqr160, nf_eql160, nf_ltr500, nf_ltl500, nf_ler500, nf_lel500, nf_eqr500, nf_eql500, nf_ml1000, nf_mr1000, nf_ltr1000, nf_ltl1000, nf_ler1000, nf_lel1000, nf_eqr1000, nf_eql1000, nf_ml1024, nf_mr1024, nf_ltr1024, nf_ltl1024, nf_ler1024, nf_lel1024, nf_eqr1024, nf_eql1024, n_and, n_or, n_dif, n_difc, fd_setF, kd_setF, ln_setF, ar_setF, nx_setF, sn_setF, sa_setF, sv_setF, fd_setA, cvA, nar_bi, nar_b0, nar_b1, o_iadd, o_isub, o_ior, o_iand, o_ladd, kd_setA, ln_setA, ar_setA, nx_setA, sn_setA, sa_setA, sv_setA, c1, cs, e10]
        exact ⟨t + 1, ⟨by omega, fin2, rfl⟩, by omega⟩
      · have e0 : enR g τ b d = false := by rw [eR, ← hA, show t = gn g by omega]
        simp (disch := omega) [↓SW_sQ, ↓SW_sIf, ↓SW_sSk, ↓SW_sRv, ↓SW_sCo, ↓SW_sBr, ↓SW_stI, ↓SW_stA, ↓SW_stJ, ↓SW_inc, ↓SW_pF, ↓SW_fO, ↓SW_aS, ↓SW_aOI, ↓SW_aOJ, ↓SW_exs, ↓SW_sRe, ↓SW_sRr, ↓SW_exv, ↓BW_v, ↓cI_a, ↓cJ_a, ↓cN_a, ↓sC_a, ↓vI_a, ↓vJ_a, ↓vA_a, ↓opI_a, ↓opJ_a, ↓lshl_a, ↓i2l_a, ↓l2i_a, ↓i2b_a, ↓gF_a, ↓aL_a, ↓aN_a, ↓icall_a, ↓cst_a, ↓nw_a, ↓nA_a, ↓cnd_a, ↓bI_a, ↓bJ_a, ↓bNull_a, ↓bNNull_a, ↓bX_a, ↓bA_a, ↓bO_a, ↓bN_a, ↓sSk_a, ↓stI_a, ↓stA_a, ↓stJ_a, ↓inc_a, ↓pF_a, ↓aS_a, ↓fO_a, ↓aOI_a, ↓aOJ_a, ↓exs_a, ↓sRe_a, ↓sRr_a, ↓sRv_a, ↓sCo_a, ↓sBr_a, ↓mA2_a, ↓mA3_a, ↓iadd_a, ↓isub_a, ↓imul_a, ↓iand_a, ↓ior_a, ↓ixor_a, ↓ishl_a, ↓ishr_a, ↓iushr_a, ↓idiv_a, ↓irem_a, ↓ladd_a, ↓lsub_a, ↓lmul_a, ↓land_a, ↓lor_a, ↓ldiv_a, ↓lrem_a, ↓evs_n, ↓evs_a, ↓sK_a, ↓oB_v, List.getElem?_cons_zero, List.getElem?_cons_succ, cat_i, cat_l, cat_r, cat_n, zfi_b0, zfi_b1, ite_mm, ite_vi, ite_vj, ite_and, ite_or, stl1, stl2, zlo, zex, rEq, rNe, rLt, rLe, rGt, rGe, rEqJ, rNeJ, rLtJ, rLeJ, rGtJ, rGeJ, bi_zfi, bi_ne, bi_1, bi_0, zfi_int, zfi_long, -Prod.exists, hT3.1, tvI hT3 20 rfl, tyI 20 rfl, fR hT3 59 36 rfl rfl, fK hT3 59 36 103 rfl rfl rfl, fL hT3 59 36 1024 rfl rfl rfl, fA hT3 59 36 3 rfl (by decide) rfl, q20, h59, nf_add, nf_mul, nf_sub, nf_lt, nf_le, nf_eq, nf_cl, nf_zin, nf_shl, nf_bit, nf_m1, nf_m1', nf_bi0, nf_ltr0, nf_ltl0, nf_ler0, nf_lel0, nf_eqr0, nf_eql0, nf_al1, nf_ar1, nf_sr1, nf_ltr1, nf_ltl1, nf_ler1, nf_lel1, nf_eqr1, nf_eql1, nf_ml2, nf_mr2, nf_al2, nf_ar2, nf_sr2, nf_ltr2, nf_ltl2, nf_ler2, nf_lel2, nf_eqr2, nf_eql2, nf_ml3, nf_mr3, nf_al3, nf_ar3, nf_sr3, nf_ltr3, nf_ltl3, nf_ler3, nf_lel3, nf_eqr3, nf_eql3, nf_ml4, nf_mr4, nf_al4, nf_ar4, nf_sr4, nf_ltr4, nf_ltl4, nf_ler4, nf_lel4, nf_eqr4, nf_eql4, nf_ml8, nf_mr8, nf_ltr8, nf_ltl8, nf_ler8, nf_lel8, nf_eqr8, nf_eql8, nf_ml10, nf_mr10, nf_al10, nf_ar10, nf_sr10, nf_ltr10, nf_ltl10, nf_ler10, nf_lel10, nf_eqr10, nf_eql10, nf_ltr12, nf_ltl12, nf_ler12, nf_lel12, nf_eqr12, nf_eql12, nf_ltr14, nf_ltl14, nf_ler14, nf_lel14, nf_eqr14, nf_eql14, nf_ml16, nf_mr16, nf_al16, nf_ar16, nf_sr16, nf_sl16, nf_ltr16, nf_ltl16, nf_ler16, nf_lel16, nf_eqr16, nf_eql16, nf_al20, nf_ar20, nf_sr20, nf_ltr20, nf_ltl20, nf_ler20, nf_lel20, nf_eqr20, nf_eql20, nf_sl24, nf_ltr24, nf_ltl24, nf_ler24, nf_lel24, nf_eqr24, nf_eql24, nf_sl30, nf_ltr30, nf_ltl30, nf_ler30, nf_lel30, nf_eqr30, nf_eql30, nf_ltr40, nf_ltl40, nf_ler40, nf_lel40, nf_eqr40, nf_eql40, nf_ltr60, nf_ltl60, nf_ler60, nf_lel60, nf_eqr60, nf_eql60, nf_ltr90, nf_ltl90, nf_ler90, nf_lel90, nf_eqr90, nf_eql90, nf_al100, nf_ar100, nf_sr100, nf_ltr100, nf_ltl100, nf_ler100, nf_lel100, nf_eqr100, nf_eql100, nf_ml120, nf_mr120, nf_ltr120, nf_ltl120, nf_ler120, nf_lel120, nf_eqr120, nf_eql120, nf_ml160, nf_mr160, nf_ltr160, nf_ltl160, nf_ler160, nf_lel160, nf_eqr160, nf_eql160, nf_ltr500, nf_ltl500, nf_ler500, nf_lel500, nf_eqr500, nf_eql500, nf_ml1000, nf_mr1000, nf_ltr1000, nf_ltl1000, nf_ler1000, nf_lel1000, nf_eqr1000, nf_eql1000, nf_ml1024, nf_mr1024, nf_ltr1024, nf_ltl1024, nf_ler1024, nf_lel1024, nf_eqr1024, nf_eql1024, n_and, n_or, n_dif, n_difc, c1]
        exact fin (by rw [e0])
    · have e0 : enR g τ b d = true := by
        rw [eR]
        cases c3 : decide (d = b)
        · rw [c3, Bool.false_or] at hA
          obtain ⟨k, hk, e⟩ := anyB_t.mp hA
          rw [Bool.false_or]
          exact anyB_t.mpr ⟨k, by omega, e⟩
        · rfl
      by_cases c1 : t < gn g
      · simp (disch := omega) [↓SW_sQ, ↓SW_sIf, ↓SW_sSk, ↓SW_sRv, ↓SW_sCo, ↓SW_sBr, ↓SW_stI, ↓SW_stA, ↓SW_stJ, ↓SW_inc, ↓SW_pF, ↓SW_fO, ↓SW_aS, ↓SW_aOI, ↓SW_aOJ, ↓SW_exs, ↓SW_sRe, ↓SW_sRr, ↓SW_exv, ↓BW_v, ↓cI_a, ↓cJ_a, ↓cN_a, ↓sC_a, ↓vI_a, ↓vJ_a, ↓vA_a, ↓opI_a, ↓opJ_a, ↓lshl_a, ↓i2l_a, ↓l2i_a, ↓i2b_a, ↓gF_a, ↓aL_a, ↓aN_a, ↓icall_a, ↓cst_a, ↓nw_a, ↓nA_a, ↓cnd_a, ↓bI_a, ↓bJ_a, ↓bNull_a, ↓bNNull_a, ↓bX_a, ↓bA_a, ↓bO_a, ↓bN_a, ↓sSk_a, ↓stI_a, ↓stA_a, ↓stJ_a, ↓inc_a, ↓pF_a, ↓aS_a, ↓fO_a, ↓aOI_a, ↓aOJ_a, ↓exs_a, ↓sRe_a, ↓sRr_a, ↓sRv_a, ↓sCo_a, ↓sBr_a, ↓mA2_a, ↓mA3_a, ↓iadd_a, ↓isub_a, ↓imul_a, ↓iand_a, ↓ior_a, ↓ixor_a, ↓ishl_a, ↓ishr_a, ↓iushr_a, ↓idiv_a, ↓irem_a, ↓ladd_a, ↓lsub_a, ↓lmul_a, ↓land_a, ↓lor_a, ↓ldiv_a, ↓lrem_a, ↓evs_n, ↓evs_a, ↓sK_a, ↓oB_v, List.getElem?_cons_zero, List.getElem?_cons_succ, cat_i, cat_l, cat_r, cat_n, zfi_b0, zfi_b1, ite_mm, ite_vi, ite_vj, ite_and, ite_or, stl1, stl2, zlo, zex, rEq, rNe, rLt, rLe, rGt, rGe, rEqJ, rNeJ, rLtJ, rLeJ, rGtJ, rGeJ, bi_zfi, bi_ne, bi_1, bi_0, zfi_int, zfi_long, -Prod.exists, hT3.1, tvI hT3 20 rfl, tyI 20 rfl, fR hT3 59 36 rfl rfl, fK hT3 59 36 103 rfl rfl rfl, fL hT3 59 36 1024 rfl rfl rfl, fA hT3 59 36 3 rfl (by decide) rfl, q20, h59, nf_add, nf_mul, nf_sub, nf_lt, nf_le, nf_eq, nf_cl, nf_zin, nf_shl, nf_bit, nf_m1, nf_m1', nf_bi0, nf_ltr0, nf_ltl0, nf_ler0, nf_lel0, nf_eqr0, nf_eql0, nf_al1, nf_ar1, nf_sr1, nf_ltr1, nf_ltl1, nf_ler1, nf_lel1, nf_eqr1, nf_eql1, nf_ml2, nf_mr2, nf_al2, nf_ar2, nf_sr2, nf_ltr2, nf_ltl2, nf_ler2, nf_lel2, nf_eqr2, nf_eql2, nf_ml3, nf_mr3, nf_al3, nf_ar3, nf_sr3, nf_ltr3, nf_ltl3, nf_ler3, nf_lel3, nf_eqr3, nf_eql3, nf_ml4, nf_mr4, nf_al4, nf_ar4, nf_sr4, nf_ltr4, nf_ltl4, nf_ler4, nf_lel4, nf_eqr4, nf_eql4, nf_ml8, nf_mr8, nf_ltr8, nf_ltl8, nf_ler8, nf_lel8, nf_eqr8, nf_eql8, nf_ml10, nf_mr10, nf_al10, nf_ar10, nf_sr10, nf_ltr10, nf_ltl10, nf_ler10, nf_lel10, nf_eqr10, nf_eql10, nf_ltr12, nf_ltl12, nf_ler12, nf_lel12, nf_eqr12, nf_eql12, nf_ltr14, nf_ltl14, nf_ler14, nf_lel14, nf_eqr14, nf_eql14, nf_ml16, nf_mr16, nf_al16, nf_ar16, nf_sr16, nf_sl16, nf_ltr16, nf_ltl16, nf_ler16, nf_lel16, nf_eqr16, nf_eql16, nf_al20, nf_ar20, nf_sr20, nf_ltr20, nf_ltl20, nf_ler20, nf_lel20, nf_eqr20, nf_eql20, nf_sl24, nf_ltr24, nf_ltl24, nf_ler24, nf_lel24, nf_eqr24, nf_eql24, nf_sl30, nf_ltr30, nf_ltl30, nf_ler30, nf_lel30, nf_eqr30, nf_eql30, nf_ltr40, nf_ltl40, nf_ler40, nf_lel40, nf_eqr40, nf_eql40, nf_ltr60, nf_ltl60, nf_ler60, nf_lel60, nf_eqr60, nf_eql60, nf_ltr90, nf_ltl90, nf_ler90, nf_lel90, nf_eqr90, nf_eql90, nf_al100, nf_ar100, nf_sr100, nf_ltr100, nf_ltl100, nf_ler100, nf_lel100, nf_eqr100, nf_eql100, nf_ml120, nf_mr120, nf_ltr120, nf_ltl120, nf_ler120, nf_lel120, nf_eqr120, nf_eql120, nf_ml160, nf_mr160, nf_ltr160, nf_ltl160, nf_ler160, nf_lel160, nf_eqr160, nf_eql160, nf_ltr500, nf_ltl500, nf_ler500, nf_lel500, nf_eqr500, nf_eql500, nf_ml1000, nf_mr1000, nf_ltr1000, nf_ltl1000, nf_ler1000, nf_lel1000, nf_eqr1000, nf_eql1000, nf_ml1024, nf_mr1024, nf_ltr1024, nf_ltl1024, nf_ler1024, nf_lel1024, nf_eqr1024, nf_eql1024, n_and, n_or, n_dif, n_difc, c1]
        exact fin (by rw [e0])
      · simp (disch := omega) [↓SW_sQ, ↓SW_sIf, ↓SW_sSk, ↓SW_sRv, ↓SW_sCo, ↓SW_sBr, ↓SW_stI, ↓SW_stA, ↓SW_stJ, ↓SW_inc, ↓SW_pF, ↓SW_fO, ↓SW_aS, ↓SW_aOI, ↓SW_aOJ, ↓SW_exs, ↓SW_sRe, ↓SW_sRr, ↓SW_exv, ↓BW_v, ↓cI_a, ↓cJ_a, ↓cN_a, ↓sC_a, ↓vI_a, ↓vJ_a, ↓vA_a, ↓opI_a, ↓opJ_a, ↓lshl_a, ↓i2l_a, ↓l2i_a, ↓i2b_a, ↓gF_a, ↓aL_a, ↓aN_a, ↓icall_a, ↓cst_a, ↓nw_a, ↓nA_a, ↓cnd_a, ↓bI_a, ↓bJ_a, ↓bNull_a, ↓bNNull_a, ↓bX_a, ↓bA_a, ↓bO_a, ↓bN_a, ↓sSk_a, ↓stI_a, ↓stA_a, ↓stJ_a, ↓inc_a, ↓pF_a, ↓aS_a, ↓fO_a, ↓aOI_a, ↓aOJ_a, ↓exs_a, ↓sRe_a, ↓sRr_a, ↓sRv_a, ↓sCo_a, ↓sBr_a, ↓mA2_a, ↓mA3_a, ↓iadd_a, ↓isub_a, ↓imul_a, ↓iand_a, ↓ior_a, ↓ixor_a, ↓ishl_a, ↓ishr_a, ↓iushr_a, ↓idiv_a, ↓irem_a, ↓ladd_a, ↓lsub_a, ↓lmul_a, ↓land_a, ↓lor_a, ↓ldiv_a, ↓lrem_a, ↓evs_n, ↓evs_a, ↓sK_a, ↓oB_v, List.getElem?_cons_zero, List.getElem?_cons_succ, cat_i, cat_l, cat_r, cat_n, zfi_b0, zfi_b1, ite_mm, ite_vi, ite_vj, ite_and, ite_or, stl1, stl2, zlo, zex, rEq, rNe, rLt, rLe, rGt, rGe, rEqJ, rNeJ, rLtJ, rLeJ, rGtJ, rGeJ, bi_zfi, bi_ne, bi_1, bi_0, zfi_int, zfi_long, -Prod.exists, hT3.1, tvI hT3 20 rfl, tyI 20 rfl, fR hT3 59 36 rfl rfl, fK hT3 59 36 103 rfl rfl rfl, fL hT3 59 36 1024 rfl rfl rfl, fA hT3 59 36 3 rfl (by decide) rfl, q20, h59, nf_add, nf_mul, nf_sub, nf_lt, nf_le, nf_eq, nf_cl, nf_zin, nf_shl, nf_bit, nf_m1, nf_m1', nf_bi0, nf_ltr0, nf_ltl0, nf_ler0, nf_lel0, nf_eqr0, nf_eql0, nf_al1, nf_ar1, nf_sr1, nf_ltr1, nf_ltl1, nf_ler1, nf_lel1, nf_eqr1, nf_eql1, nf_ml2, nf_mr2, nf_al2, nf_ar2, nf_sr2, nf_ltr2, nf_ltl2, nf_ler2, nf_lel2, nf_eqr2, nf_eql2, nf_ml3, nf_mr3, nf_al3, nf_ar3, nf_sr3, nf_ltr3, nf_ltl3, nf_ler3, nf_lel3, nf_eqr3, nf_eql3, nf_ml4, nf_mr4, nf_al4, nf_ar4, nf_sr4, nf_ltr4, nf_ltl4, nf_ler4, nf_lel4, nf_eqr4, nf_eql4, nf_ml8, nf_mr8, nf_ltr8, nf_ltl8, nf_ler8, nf_lel8, nf_eqr8, nf_eql8, nf_ml10, nf_mr10, nf_al10, nf_ar10, nf_sr10, nf_ltr10, nf_ltl10, nf_ler10, nf_lel10, nf_eqr10, nf_eql10, nf_ltr12, nf_ltl12, nf_ler12, nf_lel12, nf_eqr12, nf_eql12, nf_ltr14, nf_ltl14, nf_ler14, nf_lel14, nf_eqr14, nf_eql14, nf_ml16, nf_mr16, nf_al16, nf_ar16, nf_sr16, nf_sl16, nf_ltr16, nf_ltl16, nf_ler16, nf_lel16, nf_eqr16, nf_eql16, nf_al20, nf_ar20, nf_sr20, nf_ltr20, nf_ltl20, nf_ler20, nf_lel20, nf_eqr20, nf_eql20, nf_sl24, nf_ltr24, nf_ltl24, nf_ler24, nf_lel24, nf_eqr24, nf_eql24, nf_sl30, nf_ltr30, nf_ltl30, nf_ler30, nf_lel30, nf_eqr30, nf_eql30, nf_ltr40, nf_ltl40, nf_ler40, nf_lel40, nf_eqr40, nf_eql40, nf_ltr60, nf_ltl60, nf_ler60, nf_lel60, nf_eqr60, nf_eql60, nf_ltr90, nf_ltl90, nf_ler90, nf_lel90, nf_eqr90, nf_eql90, nf_al100, nf_ar100, nf_sr100, nf_ltr100, nf_ltl100, nf_ler100, nf_lel100, nf_eqr100, nf_eql100, nf_ml120, nf_mr120, nf_ltr120, nf_ltl120, nf_ler120, nf_lel120, nf_eqr120, nf_eql120, nf_ml160, nf_mr160, nf_ltr160, nf_ltl160, nf_ler160, nf_lel160, nf_eqr160, nf_eql160, nf_ltr500, nf_ltl500, nf_ler500, nf_lel500, nf_eqr500, nf_eql500, nf_ml1000, nf_mr1000, nf_ltr1000, nf_ltl1000, nf_ler1000, nf_lel1000, nf_eqr1000, nf_eql1000, nf_ml1024, nf_mr1024, nf_ltr1024, nf_ltl1024, nf_ler1024, nf_lel1024, nf_eqr1024, nf_eql1024, n_and, n_or, n_dif, n_difc, c1]
        exact fin (by rw [e0])
  · have e1 : (decide (d = b) || (decide (dif d b = 0) && anyB (enQ1 g τ b d) t)) = decide (d = b) := by simp [cs]
    have e2 : enR g τ b d = decide (d = b) := by rw [eR]; simp [cs]
    rw [e1] at h59 fin
    have hd3 : dif d b < 2 ^ gn g := dif_lt (by omega)
    have hdb : ¬ d = b := by
      rintro rfl
      exact cs (dif_0.mpr fun i hi => hi)
    by_cases c1 : t < gn g
    · simp (disch := omega) [↓SW_sQ, ↓SW_sIf, ↓SW_sSk, ↓SW_sRv, ↓SW_sCo, ↓SW_sBr, ↓SW_stI, ↓SW_stA, ↓SW_stJ, ↓SW_inc, ↓SW_pF, ↓SW_fO, ↓SW_aS, ↓SW_aOI, ↓SW_aOJ, ↓SW_exs, ↓SW_sRe, ↓SW_sRr, ↓SW_exv, ↓BW_v, ↓cI_a, ↓cJ_a, ↓cN_a, ↓sC_a, ↓vI_a, ↓vJ_a, ↓vA_a, ↓opI_a, ↓opJ_a, ↓lshl_a, ↓i2l_a, ↓l2i_a, ↓i2b_a, ↓gF_a, ↓aL_a, ↓aN_a, ↓icall_a, ↓cst_a, ↓nw_a, ↓nA_a, ↓cnd_a, ↓bI_a, ↓bJ_a, ↓bNull_a, ↓bNNull_a, ↓bX_a, ↓bA_a, ↓bO_a, ↓bN_a, ↓sSk_a, ↓stI_a, ↓stA_a, ↓stJ_a, ↓inc_a, ↓pF_a, ↓aS_a, ↓fO_a, ↓aOI_a, ↓aOJ_a, ↓exs_a, ↓sRe_a, ↓sRr_a, ↓sRv_a, ↓sCo_a, ↓sBr_a, ↓mA2_a, ↓mA3_a, ↓iadd_a, ↓isub_a, ↓imul_a, ↓iand_a, ↓ior_a, ↓ixor_a, ↓ishl_a, ↓ishr_a, ↓iushr_a, ↓idiv_a, ↓irem_a, ↓ladd_a, ↓lsub_a, ↓lmul_a, ↓land_a, ↓lor_a, ↓ldiv_a, ↓lrem_a, ↓evs_n, ↓evs_a, ↓sK_a, ↓oB_v, List.getElem?_cons_zero, List.getElem?_cons_succ, cat_i, cat_l, cat_r, cat_n, zfi_b0, zfi_b1, ite_mm, ite_vi, ite_vj, ite_and, ite_or, stl1, stl2, zlo, zex, rEq, rNe, rLt, rLe, rGt, rGe, rEqJ, rNeJ, rLtJ, rLeJ, rGtJ, rGeJ, bi_zfi, bi_ne, bi_1, bi_0, zfi_int, zfi_long, -Prod.exists, hT3.1, tvI hT3 20 rfl, tyI 20 rfl, fR hT3 59 36 rfl rfl, fK hT3 59 36 103 rfl rfl rfl, fL hT3 59 36 1024 rfl rfl rfl, fA hT3 59 36 3 rfl (by decide) rfl, q20, h59, nf_add, nf_mul, nf_sub, nf_lt, nf_le, nf_eq, nf_cl, nf_zin, nf_shl, nf_bit, nf_m1, nf_m1', nf_bi0, nf_ltr0, nf_ltl0, nf_ler0, nf_lel0, nf_eqr0, nf_eql0, nf_al1, nf_ar1, nf_sr1, nf_ltr1, nf_ltl1, nf_ler1, nf_lel1, nf_eqr1, nf_eql1, nf_ml2, nf_mr2, nf_al2, nf_ar2, nf_sr2, nf_ltr2, nf_ltl2, nf_ler2, nf_lel2, nf_eqr2, nf_eql2, nf_ml3, nf_mr3, nf_al3, nf_ar3, nf_sr3, nf_ltr3, nf_ltl3, nf_ler3, nf_lel3, nf_eqr3, nf_eql3, nf_ml4, nf_mr4, nf_al4, nf_ar4, nf_sr4, nf_ltr4, nf_ltl4, nf_ler4, nf_lel4, nf_eqr4, nf_eql4, nf_ml8, nf_mr8, nf_ltr8, nf_ltl8, nf_ler8, nf_lel8, nf_eqr8, nf_eql8, nf_ml10, nf_mr10, nf_al10, nf_ar10, nf_sr10, nf_ltr10, nf_ltl10, nf_ler10, nf_lel10, nf_eqr10, nf_eql10, nf_ltr12, nf_ltl12, nf_ler12, nf_lel12, nf_eqr12, nf_eql12, nf_ltr14, nf_ltl14, nf_ler14, nf_lel14, nf_eqr14, nf_eql14, nf_ml16, nf_mr16, nf_al16, nf_ar16, nf_sr16, nf_sl16, nf_ltr16, nf_ltl16, nf_ler16, nf_lel16, nf_eqr16, nf_eql16, nf_al20, nf_ar20, nf_sr20, nf_ltr20, nf_ltl20, nf_ler20, nf_lel20, nf_eqr20, nf_eql20, nf_sl24, nf_ltr24, nf_ltl24, nf_ler24, nf_lel24, nf_eqr24, nf_eql24, nf_sl30, nf_ltr30, nf_ltl30, nf_ler30, nf_lel30, nf_eqr30, nf_eql30, nf_ltr40, nf_ltl40, nf_ler40, nf_lel40, nf_eqr40, nf_eql40, nf_ltr60, nf_ltl60, nf_ler60, nf_lel60, nf_eqr60, nf_eql60, nf_ltr90, nf_ltl90, nf_ler90, nf_lel90, nf_eqr90, nf_eql90, nf_al100, nf_ar100, nf_sr100, nf_ltr100, nf_ltl100, nf_ler100, nf_lel100, nf_eqr100, nf_eql100, nf_ml120, nf_mr120, nf_ltr120, nf_ltl120, nf_ler120, nf_lel120, nf_eqr120, nf_eql120, nf_ml160, nf_mr160, nf_ltr160, nf_ltl160, nf_ler160, nf_lel160, nf_eqr160, nf_eql160, nf_ltr500, nf_ltl500, nf_ler500, nf_lel500, nf_eqr500, nf_eql500, nf_ml1000, nf_mr1000, nf_ltr1000, nf_ltl1000, nf_ler1000, nf_lel1000, nf_eqr1000, nf_eql1000, nf_ml1024, nf_mr1024, nf_ltr1024, nf_ltl1024, nf_ler1024, nf_lel1024, nf_eqr1024, nf_eql1024, n_and, n_or, n_dif, n_difc, c1, hdb, cs]
      exact fin e2.symm
    · simp (disch := omega) [↓SW_sQ, ↓SW_sIf, ↓SW_sSk, ↓SW_sRv, ↓SW_sCo, ↓SW_sBr, ↓SW_stI, ↓SW_stA, ↓SW_stJ, ↓SW_inc, ↓SW_pF, ↓SW_fO, ↓SW_aS, ↓SW_aOI, ↓SW_aOJ, ↓SW_exs, ↓SW_sRe, ↓SW_sRr, ↓SW_exv, ↓BW_v, ↓cI_a, ↓cJ_a, ↓cN_a, ↓sC_a, ↓vI_a, ↓vJ_a, ↓vA_a, ↓opI_a, ↓opJ_a, ↓lshl_a, ↓i2l_a, ↓l2i_a, ↓i2b_a, ↓gF_a, ↓aL_a, ↓aN_a, ↓icall_a, ↓cst_a, ↓nw_a, ↓nA_a, ↓cnd_a, ↓bI_a, ↓bJ_a, ↓bNull_a, ↓bNNull_a, ↓bX_a, ↓bA_a, ↓bO_a, ↓bN_a, ↓sSk_a, ↓stI_a, ↓stA_a, ↓stJ_a, ↓inc_a, ↓pF_a, ↓aS_a, ↓fO_a, ↓aOI_a, ↓aOJ_a, ↓exs_a, ↓sRe_a, ↓sRr_a, ↓sRv_a, ↓sCo_a, ↓sBr_a, ↓mA2_a, ↓mA3_a, ↓iadd_a, ↓isub_a, ↓imul_a, ↓iand_a, ↓ior_a, ↓ixor_a, ↓ishl_a, ↓ishr_a, ↓iushr_a, ↓idiv_a, ↓irem_a, ↓ladd_a, ↓lsub_a, ↓lmul_a, ↓land_a, ↓lor_a, ↓ldiv_a, ↓lrem_a, ↓evs_n, ↓evs_a, ↓sK_a, ↓oB_v, List.getElem?_cons_zero, List.getElem?_cons_succ, cat_i, cat_l, cat_r, cat_n, zfi_b0, zfi_b1, ite_mm, ite_vi, ite_vj, ite_and, ite_or, stl1, stl2, zlo, zex, rEq, rNe, rLt, rLe, rGt, rGe, rEqJ, rNeJ, rLtJ, rLeJ, rGtJ, rGeJ, bi_zfi, bi_ne, bi_1, bi_0, zfi_int, zfi_long, -Prod.exists, hT3.1, tvI hT3 20 rfl, tyI 20 rfl, fR hT3 59 36 rfl rfl, fK hT3 59 36 103 rfl rfl rfl, fL hT3 59 36 1024 rfl rfl rfl, fA hT3 59 36 3 rfl (by decide) rfl, q20, h59, nf_add, nf_mul, nf_sub, nf_lt, nf_le, nf_eq, nf_cl, nf_zin, nf_shl, nf_bit, nf_m1, nf_m1', nf_bi0, nf_ltr0, nf_ltl0, nf_ler0, nf_lel0, nf_eqr0, nf_eql0, nf_al1, nf_ar1, nf_sr1, nf_ltr1, nf_ltl1, nf_ler1, nf_lel1, nf_eqr1, nf_eql1, nf_ml2, nf_mr2, nf_al2, nf_ar2, nf_sr2, nf_ltr2, nf_ltl2, nf_ler2, nf_lel2, nf_eqr2, nf_eql2, nf_ml3, nf_mr3, nf_al3, nf_ar3, nf_sr3, nf_ltr3, nf_ltl3, nf_ler3, nf_lel3, nf_eqr3, nf_eql3, nf_ml4, nf_mr4, nf_al4, nf_ar4, nf_sr4, nf_ltr4, nf_ltl4, nf_ler4, nf_lel4, nf_eqr4, nf_eql4, nf_ml8, nf_mr8, nf_ltr8, nf_ltl8, nf_ler8, nf_lel8, nf_eqr8, nf_eql8, nf_ml10, nf_mr10, nf_al10, nf_ar10, nf_sr10, nf_ltr10, nf_ltl10, nf_ler10, nf_lel10, nf_eqr10, nf_eql10, nf_ltr12, nf_ltl12, nf_ler12, nf_lel12, nf_eqr12, nf_eql12, nf_ltr14, nf_ltl14, nf_ler14, nf_lel14, nf_eqr14, nf_eql14, nf_ml16, nf_mr16, nf_al16, nf_ar16, nf_sr16, nf_sl16, nf_ltr16, nf_ltl16, nf_ler16, nf_lel16, nf_eqr16, nf_eql16, nf_al20, nf_ar20, nf_sr20, nf_ltr20, nf_ltl20, nf_ler20, nf_lel20, nf_eqr20, nf_eql20, nf_sl24, nf_ltr24, nf_ltl24, nf_ler24, nf_lel24, nf_eqr24, nf_eql24, nf_sl30, nf_ltr30, nf_ltl30, nf_ler30, nf_lel30, nf_eqr30, nf_eql30, nf_ltr40, nf_ltl40, nf_ler40, nf_lel40, nf_eqr40, nf_eql40, nf_ltr60, nf_ltl60, nf_ler60, nf_lel60, nf_eqr60, nf_eql60, nf_ltr90, nf_ltl90, nf_ler90, nf_lel90, nf_eqr90, nf_eql90, nf_al100, nf_ar100, nf_sr100, nf_ltr100, nf_ltl100, nf_ler100, nf_lel100, nf_eqr100, nf_eql100, nf_ml120, nf_mr120, nf_ltr120, nf_ltl120, nf_ler120, nf_lel120, nf_eqr120, nf_eql120, nf_ml160, nf_mr160, nf_ltr160, nf_ltl160, nf_ler160, nf_lel160, nf_eqr160, nf_eql160, nf_ltr500, nf_ltl500, nf_ler500, nf_lel500, nf_eqr500, nf_eql500, nf_ml1000, nf_mr1000, nf_ltr1000, nf_ltl1000, nf_ler1000, nf_lel1000, nf_eqr1000, nf_eql1000, nf_ml1024, nf_mr1024, nf_ltr1024, nf_ltl1024, nf_ler1024, nf_lel1024, nf_eqr1024, nf_eql1024, n_and, n_or, n_dif, n_difc, c1, hdb, cs]
      exact fin e2.symm
theorem FX4_order_eq {g : Tg} {c : Nat} {τ : Tt} {M : Nat} {μ : Mm} (hT : TV τ M μ) (hI : TI g c τ) (x y : Int32) : ∃ v μ', FX4_order [.ref M, .int x, .int y] μ = some (v, μ') ∧ v = some (.int (orV g τ x y)) ∧ ∃ τ', SC τ τ' ∧ TP μ M τ' μ' := by
  have hb := hI.b
  have e1 := FX4_isSureTime_eq hT hI x
  refine FW_get (FW_mth ⟨rfl, by simp [zex, Value.category], by simp [hasK, hT.1]⟩ ?_)
  cases c1 : (decide (0 < gn g) && isN x 91)
  · rw [c1] at e1
    have : orV g τ x y = -1 := by unfold orV; rw [c1]; rfl
    simp [BX4_order, ↓SW_sQ, ↓SW_sIf, ↓SW_sSk, ↓SW_sRv, ↓SW_sCo, ↓SW_sBr, ↓SW_stI, ↓SW_stA, ↓SW_stJ, ↓SW_inc, ↓SW_pF, ↓SW_fO, ↓SW_aS, ↓SW_aOI, ↓SW_aOJ, ↓SW_exs, ↓SW_sRe, ↓SW_sRr, ↓SW_exv, ↓BW_v, ↓cI_a, ↓cJ_a, ↓cN_a, ↓sC_a, ↓vI_a, ↓vJ_a, ↓vA_a, ↓opI_a, ↓opJ_a, ↓lshl_a, ↓i2l_a, ↓l2i_a, ↓i2b_a, ↓gF_a, ↓aL_a, ↓aN_a, ↓icall_a, ↓cst_a, ↓nw_a, ↓nA_a, ↓cnd_a, ↓bI_a, ↓bJ_a, ↓bNull_a, ↓bNNull_a, ↓bX_a, ↓bA_a, ↓bO_a, ↓bN_a, ↓sSk_a, ↓stI_a, ↓stA_a, ↓stJ_a, ↓inc_a, ↓pF_a, ↓aS_a, ↓fO_a, ↓aOI_a, ↓aOJ_a, ↓exs_a, ↓sRe_a, ↓sRr_a, ↓sRv_a, ↓sCo_a, ↓sBr_a, ↓mA2_a, ↓mA3_a, ↓iadd_a, ↓isub_a, ↓imul_a, ↓iand_a, ↓ior_a, ↓ixor_a, ↓ishl_a, ↓ishr_a, ↓iushr_a, ↓idiv_a, ↓irem_a, ↓ladd_a, ↓lsub_a, ↓lmul_a, ↓land_a, ↓lor_a, ↓ldiv_a, ↓lrem_a, ↓evs_n, ↓evs_a, ↓sK_a, ↓oB_v, List.getElem?_cons_zero, List.getElem?_cons_succ, cat_i, cat_l, cat_r, cat_n, zfi_b0, zfi_b1, ite_mm, ite_vi, ite_vj, ite_and, ite_or, stl1, stl2, zlo, zex, rEq, rNe, rLt, rLe, rGt, rGe, rEqJ, rNeJ, rLtJ, rLeJ, rGtJ, rGeJ, bi_zfi, bi_ne, bi_1, bi_0, zfi_int, zfi_long, -Prod.exists, e1, this]
    exact ⟨τ, SC.refl τ, TP.i hT⟩
  rw [c1] at e1
  have c1' := c1
  simp only [Bool.and_eq_true, decide_eq_true_eq] at c1'
  obtain ⟨T, hT9, rfl⟩ := (isN_t (by omega)).mp c1'.2
  have eV : orV g τ (nI T) y = orF g τ (bhN g τ (-1) T) y (bhN g τ (-1) T) 0 0 := by
    unfold orV
    rw [c1, nf_cl T (by omega)]
    rfl
  obtain ⟨b1, b2⟩ := bhN_can g τ (-1) T
  by_cases c2 : y < 0
  · have : orV g τ (nI T) y = -1 := by
      rw [eV, orF_neg g τ _ c2 _ _ _ (by omega)]
    simp [BX4_order, ↓SW_sQ, ↓SW_sIf, ↓SW_sSk, ↓SW_sRv, ↓SW_sCo, ↓SW_sBr, ↓SW_stI, ↓SW_stA, ↓SW_stJ, ↓SW_inc, ↓SW_pF, ↓SW_fO, ↓SW_aS, ↓SW_aOI, ↓SW_aOJ, ↓SW_exs, ↓SW_sRe, ↓SW_sRr, ↓SW_exv, ↓BW_v, ↓cI_a, ↓cJ_a, ↓cN_a, ↓sC_a, ↓vI_a, ↓vJ_a, ↓vA_a, ↓opI_a, ↓opJ_a, ↓lshl_a, ↓i2l_a, ↓l2i_a, ↓i2b_a, ↓gF_a, ↓aL_a, ↓aN_a, ↓icall_a, ↓cst_a, ↓nw_a, ↓nA_a, ↓cnd_a, ↓bI_a, ↓bJ_a, ↓bNull_a, ↓bNNull_a, ↓bX_a, ↓bA_a, ↓bO_a, ↓bN_a, ↓sSk_a, ↓stI_a, ↓stA_a, ↓stJ_a, ↓inc_a, ↓pF_a, ↓aS_a, ↓fO_a, ↓aOI_a, ↓aOJ_a, ↓exs_a, ↓sRe_a, ↓sRr_a, ↓sRv_a, ↓sCo_a, ↓sBr_a, ↓mA2_a, ↓mA3_a, ↓iadd_a, ↓isub_a, ↓imul_a, ↓iand_a, ↓ior_a, ↓ixor_a, ↓ishl_a, ↓ishr_a, ↓iushr_a, ↓idiv_a, ↓irem_a, ↓ladd_a, ↓lsub_a, ↓lmul_a, ↓land_a, ↓lor_a, ↓ldiv_a, ↓lrem_a, ↓evs_n, ↓evs_a, ↓sK_a, ↓oB_v, List.getElem?_cons_zero, List.getElem?_cons_succ, cat_i, cat_l, cat_r, cat_n, zfi_b0, zfi_b1, ite_mm, ite_vi, ite_vj, ite_and, ite_or, stl1, stl2, zlo, zex, rEq, rNe, rLt, rLe, rGt, rGe, rEqJ, rNeJ, rLtJ, rLeJ, rGtJ, rGeJ, bi_zfi, bi_ne, bi_1, bi_0, zfi_int, zfi_long, -Prod.exists, e1, c2, this]
    exact ⟨τ, SC.refl τ, TP.i hT⟩
  unfold BX4_order
  refine SW_seq (fun L1 μ1 => L1 = [.ref M, .int (nI T), .int y, .null, .null, .null, .null] ∧ μ = μ1) ?_ ?_
  · simp (disch := omega) [↓SW_sQ, ↓SW_sIf, ↓SW_sSk, ↓SW_sRv, ↓SW_sCo, ↓SW_sBr, ↓SW_stI, ↓SW_stA, ↓SW_stJ, ↓SW_inc, ↓SW_pF, ↓SW_fO, ↓SW_aS, ↓SW_aOI, ↓SW_aOJ, ↓SW_exs, ↓SW_sRe, ↓SW_sRr, ↓SW_exv, ↓BW_v, ↓cI_a, ↓cJ_a, ↓cN_a, ↓sC_a, ↓vI_a, ↓vJ_a, ↓vA_a, ↓opI_a, ↓opJ_a, ↓lshl_a, ↓i2l_a, ↓l2i_a, ↓i2b_a, ↓gF_a, ↓aL_a, ↓aN_a, ↓icall_a, ↓cst_a, ↓nw_a, ↓nA_a, ↓cnd_a, ↓bI_a, ↓bJ_a, ↓bNull_a, ↓bNNull_a, ↓bX_a, ↓bA_a, ↓bO_a, ↓bN_a, ↓sSk_a, ↓stI_a, ↓stA_a, ↓stJ_a, ↓inc_a, ↓pF_a, ↓aS_a, ↓fO_a, ↓aOI_a, ↓aOJ_a, ↓exs_a, ↓sRe_a, ↓sRr_a, ↓sRv_a, ↓sCo_a, ↓sBr_a, ↓mA2_a, ↓mA3_a, ↓iadd_a, ↓isub_a, ↓imul_a, ↓iand_a, ↓ior_a, ↓ixor_a, ↓ishl_a, ↓ishr_a, ↓iushr_a, ↓idiv_a, ↓irem_a, ↓ladd_a, ↓lsub_a, ↓lmul_a, ↓land_a, ↓lor_a, ↓ldiv_a, ↓lrem_a, ↓evs_n, ↓evs_a, ↓sK_a, ↓oB_v, List.getElem?_cons_zero, List.getElem?_cons_succ, cat_i, cat_l, cat_r, cat_n, zfi_b0, zfi_b1, ite_mm, ite_vi, ite_vj, ite_and, ite_or, stl1, stl2, zlo, zex, rEq, rNe, rLt, rLe, rGt, rGe, rEqJ, rNeJ, rLtJ, rLeJ, rGtJ, rGeJ, bi_zfi, bi_ne, bi_1, bi_0, zfi_int, zfi_long, e1, c2]
  rintro _ _ ⟨rfl, rfl⟩
  obtain ⟨v, μ1, q1, rfl, τ1, hS1, hF1, hP1⟩ := FX4_finds_eq hT (SC.refl τ) hI (-1)
  refine SW_seq (fun L1 μ2 => L1 = [.ref M, .int (nI T), .int y, .null, .null, .null, .null] ∧ μ1 = μ2) ?_ ?_
  · simp (disch := omega) [↓SW_sQ, ↓SW_sIf, ↓SW_sSk, ↓SW_sRv, ↓SW_sCo, ↓SW_sBr, ↓SW_stI, ↓SW_stA, ↓SW_stJ, ↓SW_inc, ↓SW_pF, ↓SW_fO, ↓SW_aS, ↓SW_aOI, ↓SW_aOJ, ↓SW_exs, ↓SW_sRe, ↓SW_sRr, ↓SW_exv, ↓BW_v, ↓cI_a, ↓cJ_a, ↓cN_a, ↓sC_a, ↓vI_a, ↓vJ_a, ↓vA_a, ↓opI_a, ↓opJ_a, ↓lshl_a, ↓i2l_a, ↓l2i_a, ↓i2b_a, ↓gF_a, ↓aL_a, ↓aN_a, ↓icall_a, ↓cst_a, ↓nw_a, ↓nA_a, ↓cnd_a, ↓bI_a, ↓bJ_a, ↓bNull_a, ↓bNNull_a, ↓bX_a, ↓bA_a, ↓bO_a, ↓bN_a, ↓sSk_a, ↓stI_a, ↓stA_a, ↓stJ_a, ↓inc_a, ↓pF_a, ↓aS_a, ↓fO_a, ↓aOI_a, ↓aOJ_a, ↓exs_a, ↓sRe_a, ↓sRr_a, ↓sRv_a, ↓sCo_a, ↓sBr_a, ↓mA2_a, ↓mA3_a, ↓iadd_a, ↓isub_a, ↓imul_a, ↓iand_a, ↓ior_a, ↓ixor_a, ↓ishl_a, ↓ishr_a, ↓iushr_a, ↓idiv_a, ↓irem_a, ↓ladd_a, ↓lsub_a, ↓lmul_a, ↓land_a, ↓lor_a, ↓ldiv_a, ↓lrem_a, ↓evs_n, ↓evs_a, ↓sK_a, ↓oB_v, List.getElem?_cons_zero, List.getElem?_cons_succ, cat_i, cat_l, cat_r, cat_n, zfi_b0, zfi_b1, ite_mm, ite_vi, ite_vj, ite_and, ite_or, stl1, stl2, zlo, zex, rEq, rNe, rLt, rLe, rGt, rGe, rEqJ, rNeJ, rLtJ, rLeJ, rGtJ, rGeJ, bi_zfi, bi_ne, bi_1, bi_0, zfi_int, zfi_long, FW_of q1]
  rintro _ _ ⟨rfl, rfl⟩
  have q2 := FX4_bestHeap_eq hP1.1 hS1 hI hF1 (T := T) (by omega)
  generalize hbe : bhN g τ (-1) T = b at *
  refine SW_seq (fun L1 μ2 => L1 = [.ref M, .int (nI T), .int y, .int (nI b), .null, .null, .null] ∧ μ1 = μ2) ?_ ?_
  · simp (disch := omega) [↓SW_sQ, ↓SW_sIf, ↓SW_sSk, ↓SW_sRv, ↓SW_sCo, ↓SW_sBr, ↓SW_stI, ↓SW_stA, ↓SW_stJ, ↓SW_inc, ↓SW_pF, ↓SW_fO, ↓SW_aS, ↓SW_aOI, ↓SW_aOJ, ↓SW_exs, ↓SW_sRe, ↓SW_sRr, ↓SW_exv, ↓BW_v, ↓cI_a, ↓cJ_a, ↓cN_a, ↓sC_a, ↓vI_a, ↓vJ_a, ↓vA_a, ↓opI_a, ↓opJ_a, ↓lshl_a, ↓i2l_a, ↓l2i_a, ↓i2b_a, ↓gF_a, ↓aL_a, ↓aN_a, ↓icall_a, ↓cst_a, ↓nw_a, ↓nA_a, ↓cnd_a, ↓bI_a, ↓bJ_a, ↓bNull_a, ↓bNNull_a, ↓bX_a, ↓bA_a, ↓bO_a, ↓bN_a, ↓sSk_a, ↓stI_a, ↓stA_a, ↓stJ_a, ↓inc_a, ↓pF_a, ↓aS_a, ↓fO_a, ↓aOI_a, ↓aOJ_a, ↓exs_a, ↓sRe_a, ↓sRr_a, ↓sRv_a, ↓sCo_a, ↓sBr_a, ↓mA2_a, ↓mA3_a, ↓iadd_a, ↓isub_a, ↓imul_a, ↓iand_a, ↓ior_a, ↓ixor_a, ↓ishl_a, ↓ishr_a, ↓iushr_a, ↓idiv_a, ↓irem_a, ↓ladd_a, ↓lsub_a, ↓lmul_a, ↓land_a, ↓lor_a, ↓ldiv_a, ↓lrem_a, ↓evs_n, ↓evs_a, ↓sK_a, ↓oB_v, List.getElem?_cons_zero, List.getElem?_cons_succ, cat_i, cat_l, cat_r, cat_n, zfi_b0, zfi_b1, ite_mm, ite_vi, ite_vj, ite_and, ite_or, stl1, stl2, zlo, zex, rEq, rNe, rLt, rLe, rGt, rGe, rEqJ, rNeJ, rLtJ, rLeJ, rGtJ, rGeJ, bi_zfi, bi_ne, bi_1, bi_0, zfi_int, zfi_long, q2]
  rintro _ _ ⟨rfl, rfl⟩
  refine SW_seq (fun L1 μ2 => ENS g c τ M μ b 0 μ2 ∧ ∃ j1 j2 j3 : Value, j1.category = 1 ∧ j2.category = 1 ∧ L1 = [.ref M, .int (nI T), .int y, .int (nI b), j1, j2, .null]) ?_ ?_
  · simp (disch := omega) [↓SW_sQ, ↓SW_sIf, ↓SW_sSk, ↓SW_sRv, ↓SW_sCo, ↓SW_sBr, ↓SW_stI, ↓SW_stA, ↓SW_stJ, ↓SW_inc, ↓SW_pF, ↓SW_fO, ↓SW_aS, ↓SW_aOI, ↓SW_aOJ, ↓SW_exs, ↓SW_sRe, ↓SW_sRr, ↓SW_exv, ↓BW_v, ↓cI_a, ↓cJ_a, ↓cN_a, ↓sC_a, ↓vI_a, ↓vJ_a, ↓vA_a, ↓opI_a, ↓opJ_a, ↓lshl_a, ↓i2l_a, ↓l2i_a, ↓i2b_a, ↓gF_a, ↓aL_a, ↓aN_a, ↓icall_a, ↓cst_a, ↓nw_a, ↓nA_a, ↓cnd_a, ↓bI_a, ↓bJ_a, ↓bNull_a, ↓bNNull_a, ↓bX_a, ↓bA_a, ↓bO_a, ↓bN_a, ↓sSk_a, ↓stI_a, ↓stA_a, ↓stJ_a, ↓inc_a, ↓pF_a, ↓aS_a, ↓fO_a, ↓aOI_a, ↓aOJ_a, ↓exs_a, ↓sRe_a, ↓sRr_a, ↓sRv_a, ↓sCo_a, ↓sBr_a, ↓mA2_a, ↓mA3_a, ↓iadd_a, ↓isub_a, ↓imul_a, ↓iand_a, ↓ior_a, ↓ixor_a, ↓ishl_a, ↓ishr_a, ↓iushr_a, ↓idiv_a, ↓irem_a, ↓ladd_a, ↓lsub_a, ↓lmul_a, ↓land_a, ↓lor_a, ↓ldiv_a, ↓lrem_a, ↓evs_n, ↓evs_a, ↓sK_a, ↓oB_v, List.getElem?_cons_zero, List.getElem?_cons_succ, cat_i, cat_l, cat_r, cat_n, zfi_b0, zfi_b1, ite_mm, ite_vi, ite_vj, ite_and, ite_or, stl1, stl2, zlo, zex, rEq, rNe, rLt, rLe, rGt, rGe, rEqJ, rNeJ, rLtJ, rLeJ, rGtJ, rGeJ, bi_zfi, bi_ne, bi_1, bi_0, zfi_int, zfi_long]
    refine SW_inv (fun d L μ' => d ≤ b + 1 ∧ ENS g c τ M μ b d μ' ∧ ∃ j1 : Value, j1.category = 1 ∧ L = [.ref M, .int (nI T), .int y, .int (nI b), .int (nI d + (-1)), j1, .null]) (fun d => d) (a := b + 1) (by omega) ⟨Nat.le_refl _, ⟨τ1, hS1, hF1, fun h _ _ => by omega, hP1⟩, .null, rfl, by rw [pk_m1]⟩ ?_
    rintro d L μ3 ⟨hd, hE, j1, hj1, rfl⟩
    cases d with
    | zero =>
      have e5 : ¬ (0 : Int32) ≤ nI 0 + (-1) := by decide
      simp (disch := omega) [↓SW_sQ, ↓SW_sIf, ↓SW_sSk, ↓SW_sRv, ↓SW_sCo, ↓SW_sBr, ↓SW_stI, ↓SW_stA, ↓SW_stJ, ↓SW_inc, ↓SW_pF, ↓SW_fO, ↓SW_aS, ↓SW_aOI, ↓SW_aOJ, ↓SW_exs, ↓SW_sRe, ↓SW_sRr, ↓SW_exv, ↓BW_v, ↓cI_a, ↓cJ_a, ↓cN_a, ↓sC_a, ↓vI_a, ↓vJ_a, ↓vA_a, ↓opI_a, ↓opJ_a, ↓lshl_a, ↓i2l_a, ↓l2i_a, ↓i2b_a, ↓gF_a, ↓aL_a, ↓aN_a, ↓icall_a, ↓cst_a, ↓nw_a, ↓nA_a, ↓cnd_a, ↓bI_a, ↓bJ_a, ↓bNull_a, ↓bNNull_a, ↓bX_a, ↓bA_a, ↓bO_a, ↓bN_a, ↓sSk_a, ↓stI_a, ↓stA_a, ↓stJ_a, ↓inc_a, ↓pF_a, ↓aS_a, ↓fO_a, ↓aOI_a, ↓aOJ_a, ↓exs_a, ↓sRe_a, ↓sRr_a, ↓sRv_a, ↓sCo_a, ↓sBr_a, ↓mA2_a, ↓mA3_a, ↓iadd_a, ↓isub_a, ↓imul_a, ↓iand_a, ↓ior_a, ↓ixor_a, ↓ishl_a, ↓ishr_a, ↓iushr_a, ↓idiv_a, ↓irem_a, ↓ladd_a, ↓lsub_a, ↓lmul_a, ↓land_a, ↓lor_a, ↓ldiv_a, ↓lrem_a, ↓evs_n, ↓evs_a, ↓sK_a, ↓oB_v, List.getElem?_cons_zero, List.getElem?_cons_succ, cat_i, cat_l, cat_r, cat_n, zfi_b0, zfi_b1, ite_mm, ite_vi, ite_vj, ite_and, ite_or, stl1, stl2, zlo, zex, rEq, rNe, rLt, rLe, rGt, rGe, rEqJ, rNeJ, rLtJ, rLeJ, rGtJ, rGeJ, bi_zfi, bi_ne, bi_1, bi_0, zfi_int, zfi_long, e5]
      first | exact hE | exact ⟨hE, hj1⟩ | exact ⟨hE, _, hj1, rfl⟩
    | succ d =>
      rw [pk_m1]
      simp (disch := omega) only [BW_v, bI_a, vI_a, List.getElem?_cons_succ, List.getElem?_cons_zero, cI_a, rGe, nf_lel0, Nat.zero_le, decide_true, if_true, true_and]
      refine SW_mono (ord_ends hI b1 hd hj1 rfl hE) ?_
      rintro o v L μ4 ⟨rfl, hE4, j2, hj2, rfl⟩
      simp (disch := omega) [↓SW_sQ, ↓SW_sIf, ↓SW_sSk, ↓SW_sRv, ↓SW_sCo, ↓SW_sBr, ↓SW_stI, ↓SW_stA, ↓SW_stJ, ↓SW_inc, ↓SW_pF, ↓SW_fO, ↓SW_aS, ↓SW_aOI, ↓SW_aOJ, ↓SW_exs, ↓SW_sRe, ↓SW_sRr, ↓SW_exv, ↓BW_v, ↓cI_a, ↓cJ_a, ↓cN_a, ↓sC_a, ↓vI_a, ↓vJ_a, ↓vA_a, ↓opI_a, ↓opJ_a, ↓lshl_a, ↓i2l_a, ↓l2i_a, ↓i2b_a, ↓gF_a, ↓aL_a, ↓aN_a, ↓icall_a, ↓cst_a, ↓nw_a, ↓nA_a, ↓cnd_a, ↓bI_a, ↓bJ_a, ↓bNull_a, ↓bNNull_a, ↓bX_a, ↓bA_a, ↓bO_a, ↓bN_a, ↓sSk_a, ↓stI_a, ↓stA_a, ↓stJ_a, ↓inc_a, ↓pF_a, ↓aS_a, ↓fO_a, ↓aOI_a, ↓aOJ_a, ↓exs_a, ↓sRe_a, ↓sRr_a, ↓sRv_a, ↓sCo_a, ↓sBr_a, ↓mA2_a, ↓mA3_a, ↓iadd_a, ↓isub_a, ↓imul_a, ↓iand_a, ↓ior_a, ↓ixor_a, ↓ishl_a, ↓ishr_a, ↓iushr_a, ↓idiv_a, ↓irem_a, ↓ladd_a, ↓lsub_a, ↓lmul_a, ↓land_a, ↓lor_a, ↓ldiv_a, ↓lrem_a, ↓evs_n, ↓evs_a, ↓sK_a, ↓oB_v, List.getElem?_cons_zero, List.getElem?_cons_succ, cat_i, cat_l, cat_r, cat_n, zfi_b0, zfi_b1, ite_mm, ite_vi, ite_vj, ite_and, ite_or, stl1, stl2, zlo, zex, rEq, rNe, rLt, rLe, rGt, rGe, rEqJ, rNeJ, rLtJ, rLeJ, rGtJ, rGeJ, bi_zfi, bi_ne, bi_1, bi_0, zfi_int, zfi_long, hj2]
      first | exact ⟨d, ⟨by omega, hE4, rfl⟩, by omega⟩ | exact ⟨d, ⟨by omega, hE4, _, hj2, rfl⟩, by omega⟩ | exact ⟨d, ⟨by omega, hE4, hj2⟩, by omega⟩
  rintro _ μ5 ⟨⟨τ5, hS5, hF5, hN5, hP5⟩, j1, j2, j3, hj1, hj2, rfl⟩
  have hT5 := hP5.1
  have hG5 := hS5.gt hI.g
  have q20 := gt20 hG5
  have e00 : enR g τ b 0 = true := enR_0 g τ b b b (Nat.le_refl _) b2 (dif_0.mpr fun i hi => hi) (by simp [enR, enF])
  have fin : nx μ ≤ nx μ5 ∧ sn μ ≤ sn μ5 ∧ ∃ τ', SC τ τ' ∧ TP μ M τ' μ5 := ⟨Nat.le_of_eq hP5.2.2.2.1.symm, Nat.le_of_eq hP5.2.2.2.2.1.symm, τ5, hS5, hP5⟩
  simp (disch := omega) [↓SW_sQ, ↓SW_sIf, ↓SW_sSk, ↓SW_sRv, ↓SW_sCo, ↓SW_sBr, ↓SW_stI, ↓SW_stA, ↓SW_stJ, ↓SW_inc, ↓SW_pF, ↓SW_fO, ↓SW_aS, ↓SW_aOI, ↓SW_aOJ, ↓SW_exs, ↓SW_sRe, ↓SW_sRr, ↓SW_exv, ↓BW_v, ↓cI_a, ↓cJ_a, ↓cN_a, ↓sC_a, ↓vI_a, ↓vJ_a, ↓vA_a, ↓opI_a, ↓opJ_a, ↓lshl_a, ↓i2l_a, ↓l2i_a, ↓i2b_a, ↓gF_a, ↓aL_a, ↓aN_a, ↓icall_a, ↓cst_a, ↓nw_a, ↓nA_a, ↓cnd_a, ↓bI_a, ↓bJ_a, ↓bNull_a, ↓bNNull_a, ↓bX_a, ↓bA_a, ↓bO_a, ↓bN_a, ↓sSk_a, ↓stI_a, ↓stA_a, ↓stJ_a, ↓inc_a, ↓pF_a, ↓aS_a, ↓fO_a, ↓aOI_a, ↓aOJ_a, ↓exs_a, ↓sRe_a, ↓sRr_a, ↓sRv_a, ↓sCo_a, ↓sBr_a, ↓mA2_a, ↓mA3_a, ↓iadd_a, ↓isub_a, ↓imul_a, ↓iand_a, ↓ior_a, ↓ixor_a, ↓ishl_a, ↓ishr_a, ↓iushr_a, ↓idiv_a, ↓irem_a, ↓ladd_a, ↓lsub_a, ↓lmul_a, ↓land_a, ↓lor_a, ↓ldiv_a, ↓lrem_a, ↓evs_n, ↓evs_a, ↓sK_a, ↓oB_v, List.getElem?_cons_zero, List.getElem?_cons_succ, cat_i, cat_l, cat_r, cat_n, zfi_b0, zfi_b1, ite_mm, ite_vi, ite_vj, ite_and, ite_or, stl1, stl2, zlo, zex, rEq, rNe, rLt, rLe, rGt, rGe, rEqJ, rNeJ, rLtJ, rLeJ, rGtJ, rGeJ, bi_zfi, bi_ne, bi_1, bi_0, zfi_int, zfi_long, -Prod.exists, hj1, hj2]
  refine SW_inv (fun (a : Nat × Nat) L μ' => μ5 = μ' ∧ dif a.2 b = 0 ∧ enR g τ b a.2 = true ∧ (∃ f, b - a.2 ≤ f ∧ a.1 + f < 2147483648 ∧ orF g τ b y f a.1 a.2 = orV g τ (nI T) y) ∧ ∃ j2 : Value, j2.category = 1 ∧ L = [.ref M, .int (nI T), .int y, .int (nI b), .int (nI a.2), .int (nI a.1), j2]) (fun a => b - a.2) (a := (0, 0)) (by omega) ⟨rfl, dif_0.mpr fun i hi => by simp at hi, e00, ⟨b, Nat.le_refl _, by omega, eV.symm⟩, .null, rfl, rfl⟩ ?_
  rintro ⟨i, h⟩ L _ ⟨rfl, hs, hen, ⟨f, hf1, hf2, hf3⟩, j2, hj2, rfl⟩
  replace hs : dif h b = 0 := hs
  replace hen : enR g τ b h = true := hen
  replace hf1 : b - h ≤ f := hf1
  replace hf2 : i + f < 2147483648 := hf2
  replace hf3 : orF g τ b y f i h = orV g τ (nI T) y := hf3
  have hle := sub_le hs
  by_cases ch : h = b
  · have hv : orV g τ (nI T) y = -1 := by
      rw [← hf3]
      cases f with
      | zero => rfl
      | succ f => simp only [orF]; rw [if_pos ch]
    simp (disch := omega) [↓SW_sQ, ↓SW_sIf, ↓SW_sSk, ↓SW_sRv, ↓SW_sCo, ↓SW_sBr, ↓SW_stI, ↓SW_stA, ↓SW_stJ, ↓SW_inc, ↓SW_pF, ↓SW_fO, ↓SW_aS, ↓SW_aOI, ↓SW_aOJ, ↓SW_exs, ↓SW_sRe, ↓SW_sRr, ↓SW_exv, ↓BW_v, ↓cI_a, ↓cJ_a, ↓cN_a, ↓sC_a, ↓vI_a, ↓vJ_a, ↓vA_a, ↓opI_a, ↓opJ_a, ↓lshl_a, ↓i2l_a, ↓l2i_a, ↓i2b_a, ↓gF_a, ↓aL_a, ↓aN_a, ↓icall_a, ↓cst_a, ↓nw_a, ↓nA_a, ↓cnd_a, ↓bI_a, ↓bJ_a, ↓bNull_a, ↓bNNull_a, ↓bX_a, ↓bA_a, ↓bO_a, ↓bN_a, ↓sSk_a, ↓stI_a, ↓stA_a, ↓stJ_a, ↓inc_a, ↓pF_a, ↓aS_a, ↓fO_a, ↓aOI_a, ↓aOJ_a, ↓exs_a, ↓sRe_a, ↓sRr_a, ↓sRv_a, ↓sCo_a, ↓sBr_a, ↓mA2_a, ↓mA3_a, ↓iadd_a, ↓isub_a, ↓imul_a, ↓iand_a, ↓ior_a, ↓ixor_a, ↓ishl_a, ↓ishr_a, ↓iushr_a, ↓idiv_a, ↓irem_a, ↓ladd_a, ↓lsub_a, ↓lmul_a, ↓land_a, ↓lor_a, ↓ldiv_a, ↓lrem_a, ↓evs_n, ↓evs_a, ↓sK_a, ↓oB_v, List.getElem?_cons_zero, List.getElem?_cons_succ, cat_i, cat_l, cat_r, cat_n, zfi_b0, zfi_b1, ite_mm, ite_vi, ite_vj, ite_and, ite_or, stl1, stl2, zlo, zex, rEq, rNe, rLt, rLe, rGt, rGe, rEqJ, rNeJ, rLtJ, rLeJ, rGtJ, rGeJ, bi_zfi, bi_ne, bi_1, bi_0, zfi_int, zfi_long, -Prod.exists, nf_add, nf_mul, nf_sub, nf_lt, nf_le, nf_eq, nf_cl, nf_zin, nf_shl, nf_bit, nf_m1, nf_m1', nf_bi0, nf_ltr0, nf_ltl0, nf_ler0, nf_lel0, nf_eqr0, nf_eql0, nf_al1, nf_ar1, nf_sr1, nf_ltr1, nf_ltl1, nf_ler1, nf_lel1, nf_eqr1, nf_eql1, nf_ml2, nf_mr2, nf_al2, nf_ar2, nf_sr2, nf_ltr2, nf_ltl2, nf_ler2, nf_lel2, nf_eqr2, nf_eql2, nf_ml3, nf_mr3, nf_al3, nf_ar3, nf_sr3, nf_ltr3, nf_ltl3, nf_ler3, nf_lel3, nf_eqr3, nf_eql3, nf_ml4, nf_mr4, nf_al4, nf_ar4, nf_sr4, nf_ltr4, nf_ltl4, nf_ler4, nf_lel4, nf_eqr4, nf_eql4, nf_ml8, nf_mr8, nf_ltr8, nf_ltl8, nf_ler8, nf_lel8, nf_eqr8, nf_eql8, nf_ml10, nf_mr10, nf_al10, nf_ar10, nf_sr10, nf_ltr10, nf_ltl10, nf_ler10, nf_lel10, nf_eqr10, nf_eql10, nf_ltr12, nf_ltl12, nf_ler12, nf_lel12, nf_eqr12, nf_eql12, nf_ltr14, nf_ltl14, nf_ler14, nf_lel14, nf_eqr14, nf_eql14, nf_ml16, nf_mr16, nf_al16, nf_ar16, nf_sr16, nf_sl16, nf_ltr16, nf_ltl16, nf_ler16, nf_lel16, nf_eqr16, nf_eql16, nf_al20, nf_ar20, nf_sr20, nf_ltr20, nf_ltl20, nf_ler20, nf_lel20, nf_eqr20, nf_eql20, nf_sl24, nf_ltr24, nf_ltl24, nf_ler24, nf_lel24, nf_eqr24, nf_eql24, nf_sl30, nf_ltr30, nf_ltl30, nf_ler30, nf_lel30, nf_eqr30, nf_eql30, nf_ltr40, nf_ltl40, nf_ler40, nf_lel40, nf_eqr40, nf_eql40, nf_ltr60, nf_ltl60, nf_ler60, nf_lel60, nf_eqr60, nf_eql60, nf_ltr90, nf_ltl90, nf_ler90, nf_lel90, nf_eqr90, nf_eql90, nf_al100, nf_ar100, nf_sr100, nf_ltr100, nf_ltl100, nf_ler100, nf_lel100, nf_eqr100, nf_eql100, nf_ml120, nf_mr120, nf_ltr120, nf_ltl120, nf_ler120, nf_lel120, nf_eqr120, nf_eql120, nf_ml160, nf_mr160, nf_ltr160, nf_ltl160, nf_ler160, nf_lel160, nf_eqr160, nf_eql160, nf_ltr500, nf_ltl500, nf_ler500, nf_lel500, nf_eqr500, nf_eql500, nf_ml1000, nf_mr1000, nf_ltr1000, nf_ltl1000, nf_ler1000, nf_lel1000, nf_eqr1000, nf_eql1000, nf_ml1024, nf_mr1024, nf_ltr1024, nf_ltl1024, nf_ler1024, nf_lel1024, nf_eqr1024, nf_eql1024, n_and, n_or, n_dif, n_difc, ch, hv]
    exact fin
  · rw [enR_eq g τ hle] at hen
    simp only [ch, decide_false, Bool.false_or, hs, decide_true, Bool.true_and] at hen
    obtain ⟨x0, hx0⟩ := fsN_ex hen
    obtain ⟨x1, x2, x3⟩ := fsN_some hx0
    have x2' := x2
    unfold enQ1 at x2'
    simp only [Bool.and_eq_true] at x2'
    obtain ⟨⟨y1, y2⟩, y3⟩ := x2'
    have y4 : h.testBit x0 = false := by
      unfold goQ at y2
      simp only [Bool.and_eq_true, Bool.not_eq_true'] at y2
      exact y2.1.1.1
    have y5 := or_up y4
    have y6 := sub_or hs y1
    have y7 := sub_le y6
    cases f with
    | zero => omega
    | succ f =>
      have hf4 : (if nI i = y then nI x0 else orF g τ b y f (i + 1) (h ||| 2 ^ x0)) = orV g τ (nI T) y := by
        rw [← hf3]
        simp only [orF]
        rw [if_neg ch, hx0]
      simp (disch := omega) [↓SW_sQ, ↓SW_sIf, ↓SW_sSk, ↓SW_sRv, ↓SW_sCo, ↓SW_sBr, ↓SW_stI, ↓SW_stA, ↓SW_stJ, ↓SW_inc, ↓SW_pF, ↓SW_fO, ↓SW_aS, ↓SW_aOI, ↓SW_aOJ, ↓SW_exs, ↓SW_sRe, ↓SW_sRr, ↓SW_exv, ↓BW_v, ↓cI_a, ↓cJ_a, ↓cN_a, ↓sC_a, ↓vI_a, ↓vJ_a, ↓vA_a, ↓opI_a, ↓opJ_a, ↓lshl_a, ↓i2l_a, ↓l2i_a, ↓i2b_a, ↓gF_a, ↓aL_a, ↓aN_a, ↓icall_a, ↓cst_a, ↓nw_a, ↓nA_a, ↓cnd_a, ↓bI_a, ↓bJ_a, ↓bNull_a, ↓bNNull_a, ↓bX_a, ↓bA_a, ↓bO_a, ↓bN_a, ↓sSk_a, ↓stI_a, ↓stA_a, ↓stJ_a, ↓inc_a, ↓pF_a, ↓aS_a, ↓fO_a, ↓aOI_a, ↓aOJ_a, ↓exs_a, ↓sRe_a, ↓sRr_a, ↓sRv_a, ↓sCo_a, ↓sBr_a, ↓mA2_a, ↓mA3_a, ↓iadd_a, ↓isub_a, ↓imul_a, ↓iand_a, ↓ior_a, ↓ixor_a, ↓ishl_a, ↓ishr_a, ↓iushr_a, ↓idiv_a, ↓irem_a, ↓ladd_a, ↓lsub_a, ↓lmul_a, ↓land_a, ↓lor_a, ↓ldiv_a, ↓lrem_a, ↓evs_n, ↓evs_a, ↓sK_a, ↓oB_v, List.getElem?_cons_zero, List.getElem?_cons_succ, cat_i, cat_l, cat_r, cat_n, zfi_b0, zfi_b1, ite_mm, ite_vi, ite_vj, ite_and, ite_or, stl1, stl2, zlo, zex, rEq, rNe, rLt, rLe, rGt, rGe, rEqJ, rNeJ, rLtJ, rLeJ, rGtJ, rGeJ, bi_zfi, bi_ne, bi_1, bi_0, zfi_int, zfi_long, -Prod.exists, nf_add, nf_mul, nf_sub, nf_lt, nf_le, nf_eq, nf_cl, nf_zin, nf_shl, nf_bit, nf_m1, nf_m1', nf_bi0, nf_ltr0, nf_ltl0, nf_ler0, nf_lel0, nf_eqr0, nf_eql0, nf_al1, nf_ar1, nf_sr1, nf_ltr1, nf_ltl1, nf_ler1, nf_lel1, nf_eqr1, nf_eql1, nf_ml2, nf_mr2, nf_al2, nf_ar2, nf_sr2, nf_ltr2, nf_ltl2, nf_ler2, nf_lel2, nf_eqr2, nf_eql2, nf_ml3, nf_mr3, nf_al3, nf_ar3, nf_sr3, nf_ltr3, nf_ltl3, nf_ler3, nf_lel3, nf_eqr3, nf_eql3, nf_ml4, nf_mr4, nf_al4, nf_ar4, nf_sr4, nf_ltr4, nf_ltl4, nf_ler4, nf_lel4, nf_eqr4, nf_eql4, nf_ml8, nf_mr8, nf_ltr8, nf_ltl8, nf_ler8, nf_lel8, nf_eqr8, nf_eql8, nf_ml10, nf_mr10, nf_al10, nf_ar10, nf_sr10, nf_ltr10, nf_ltl10, nf_ler10, nf_lel10, nf_eqr10, nf_eql10, nf_ltr12, nf_ltl12, nf_ler12, nf_lel12, nf_eqr12, nf_eql12, nf_ltr14, nf_ltl14, nf_ler14, nf_lel14, nf_eqr14, nf_eql14, nf_ml16, nf_mr16, nf_al16, nf_ar16, nf_sr16, nf_sl16, nf_ltr16, nf_ltl16, nf_ler16, nf_lel16, nf_eqr16, nf_eql16, nf_al20, nf_ar20, nf_sr20, nf_ltr20, nf_ltl20, nf_ler20, nf_lel20, nf_eqr20, nf_eql20, nf_sl24, nf_ltr24, nf_ltl24, nf_ler24, nf_lel24, nf_eqr24, nf_eql24, nf_sl30, nf_ltr30, nf_ltl30, nf_ler30, nf_lel30, nf_eqr30, nf_eql30, nf_ltr40, nf_ltl40, nf_ler40, nf_lel40, nf_eqr40, nf_eql40, nf_ltr60, nf_ltl60, nf_ler60, nf_lel60, nf_eqr60, nf_eql60, nf_ltr90, nf_ltl90, nf_ler90, nf_lel90, nf_eqr90, nf_eql90, nf_al100, nf_ar100, nf_sr100, nf_ltr100, nf_ltl100, nf_ler100, nf_lel100, nf_eqr100, nf_eql100, nf_ml120, nf_mr120, nf_ltr120, nf_ltl120, nf_ler120, nf_lel120, nf_eqr120, nf_eql120, nf_ml160, nf_mr160, nf_ltr160, nf_ltl160, nf_ler160, nf_lel160, nf_eqr160, nf_eql160, nf_ltr500, nf_ltl500, nf_ler500, nf_lel500, nf_eqr500, nf_eql500, nf_ml1000, nf_mr1000, nf_ltr1000, nf_ltl1000, nf_ler1000, nf_lel1000, nf_eqr1000, nf_eql1000, nf_ml1024, nf_mr1024, nf_ltr1024, nf_ltl1024, nf_ler1024, nf_lel1024, nf_eqr1024, nf_eql1024, n_and, n_or, n_dif, n_difc, ch, hj2]
      refine SW_inv (fun z L μ' => μ5 = μ' ∧ z ≤ x0 ∧ L = [.ref M, .int (nI T), .int y, .int (nI b), .int (nI h), .int (nI i), .int (nI z)]) (fun z => x0 - z) (a := 0) (by omega) ⟨rfl, by omega, rfl⟩ ?_
      rintro z L _ ⟨rfl, hz, rfl⟩
      have hh2 : h < 2 ^ gn g := by omega
      have q5 := FX4_goesOn_eq hT5 hS5 hI (-1) hh2 (t := z) (by omega) (hF5 h hh2).1
      by_cases cz : z = x0
      · subst cz
        have k3 := hN5 (h ||| 2 ^ z) (by omega) y7
        by_cases ci : nI i = y
        · rw [if_pos ci] at hf4
          simp (disch := omega) [↓SW_sQ, ↓SW_sIf, ↓SW_sSk, ↓SW_sRv, ↓SW_sCo, ↓SW_sBr, ↓SW_stI, ↓SW_stA, ↓SW_stJ, ↓SW_inc, ↓SW_pF, ↓SW_fO, ↓SW_aS, ↓SW_aOI, ↓SW_aOJ, ↓SW_exs, ↓SW_sRe, ↓SW_sRr, ↓SW_exv, ↓BW_v, ↓cI_a, ↓cJ_a, ↓cN_a, ↓sC_a, ↓vI_a, ↓vJ_a, ↓vA_a, ↓opI_a, ↓opJ_a, ↓lshl_a, ↓i2l_a, ↓l2i_a, ↓i2b_a, ↓gF_a, ↓aL_a, ↓aN_a, ↓icall_a, ↓cst_a, ↓nw_a, ↓nA_a, ↓cnd_a, ↓bI_a, ↓bJ_a, ↓bNull_a, ↓bNNull_a, ↓bX_a, ↓bA_a, ↓bO_a, ↓bN_a, ↓sSk_a, ↓stI_a, ↓stA_a, ↓stJ_a, ↓inc_a, ↓pF_a, ↓aS_a, ↓fO_a, ↓aOI_a, ↓aOJ_a, ↓exs_a, ↓sRe_a, ↓sRr_a, ↓sRv_a, ↓sCo_a, ↓sBr_a, ↓mA2_a, ↓mA3_a, ↓iadd_a, ↓isub_a, ↓imul_a, ↓iand_a, ↓ior_a, ↓ixor_a, ↓ishl_a, ↓ishr_a, ↓iushr_a, ↓idiv_a, ↓irem_a, ↓ladd_a, ↓lsub_a, ↓lmul_a, ↓land_a, ↓lor_a, ↓ldiv_a, ↓lrem_a, ↓evs_n, ↓evs_a, ↓sK_a, ↓oB_v, List.getElem?_cons_zero, List.getElem?_cons_succ, cat_i, cat_l, cat_r, cat_n, zfi_b0, zfi_b1, ite_mm, ite_vi, ite_vj, ite_and, ite_or, stl1, stl2, zlo, zex, rEq, rNe, rLt, rLe, rGt, rGe, rEqJ, rNeJ, rLtJ, rLeJ, rGtJ, rGeJ, bi_zfi, bi_ne, bi_1, bi_0, zfi_int, zfi_long, -Prod.exists, hT5.1, fR hT5 59 36 rfl rfl, fK hT5 59 36 103 rfl rfl rfl, fL hT5 59 36 1024 rfl rfl rfl, fA hT5 59 36 3 rfl (by decide) rfl, nf_cl, nf_zin, nf_shl, n_or, FX4_has_eq, y1, y2, y3, q5, k3, ci, ← hf4]
          exact fin
        · rw [if_neg ci] at hf4
          simp (disch := omega) [↓SW_sQ, ↓SW_sIf, ↓SW_sSk, ↓SW_sRv, ↓SW_sCo, ↓SW_sBr, ↓SW_stI, ↓SW_stA, ↓SW_stJ, ↓SW_inc, ↓SW_pF, ↓SW_fO, ↓SW_aS, ↓SW_aOI, ↓SW_aOJ, ↓SW_exs, ↓SW_sRe, ↓SW_sRr, ↓SW_exv, ↓BW_v, ↓cI_a, ↓cJ_a, ↓cN_a, ↓sC_a, ↓vI_a, ↓vJ_a, ↓vA_a, ↓opI_a, ↓opJ_a, ↓lshl_a, ↓i2l_a, ↓l2i_a, ↓i2b_a, ↓gF_a, ↓aL_a, ↓aN_a, ↓icall_a, ↓cst_a, ↓nw_a, ↓nA_a, ↓cnd_a, ↓bI_a, ↓bJ_a, ↓bNull_a, ↓bNNull_a, ↓bX_a, ↓bA_a, ↓bO_a, ↓bN_a, ↓sSk_a, ↓stI_a, ↓stA_a, ↓stJ_a, ↓inc_a, ↓pF_a, ↓aS_a, ↓fO_a, ↓aOI_a, ↓aOJ_a, ↓exs_a, ↓sRe_a, ↓sRr_a, ↓sRv_a, ↓sCo_a, ↓sBr_a, ↓mA2_a, ↓mA3_a, ↓iadd_a, ↓isub_a, ↓imul_a, ↓iand_a, ↓ior_a, ↓ixor_a, ↓ishl_a, ↓ishr_a, ↓iushr_a, ↓idiv_a, ↓irem_a, ↓ladd_a, ↓lsub_a, ↓lmul_a, ↓land_a, ↓lor_a, ↓ldiv_a, ↓lrem_a, ↓evs_n, ↓evs_a, ↓sK_a, ↓oB_v, List.getElem?_cons_zero, List.getElem?_cons_succ, cat_i, cat_l, cat_r, cat_n, zfi_b0, zfi_b1, ite_mm, ite_vi, ite_vj, ite_and, ite_or, stl1, stl2, zlo, zex, rEq, rNe, rLt, rLe, rGt, rGe, rEqJ, rNeJ, rLtJ, rLeJ, rGtJ, rGeJ, bi_zfi, bi_ne, bi_1, bi_0, zfi_int, zfi_long, -Prod.exists, hT5.1, fR hT5 59 36 rfl rfl, fK hT5 59 36 103 rfl rfl rfl, fL hT5 59 36 1024 rfl rfl rfl, fA hT5 59 36 3 rfl (by decide) rfl, nf_cl, nf_zin, nf_shl, n_or, nf_ar1, FX4_has_eq, y1, y2, y3, q5, k3, ci]
          refine ⟨(i + 1, h ||| 2 ^ z), ⟨y6, y3, ⟨f, ?_, ?_, hf4⟩, ?_⟩, ?_⟩
          · show b ≤ f + (h ||| 2 ^ z)
            omega
          · show i + 1 + f < _
            omega
          · first | exact ⟨_, rfl, rfl, rfl, rfl⟩ | exact ⟨rfl, rfl⟩ | exact ⟨rfl, rfl, _, rfl, rfl⟩ | simp
          · show b - (h ||| 2 ^ z) < b - h
            omega
      · have k4 := x3 z (by omega)
        unfold enQ1 at k4
        cases c5 : b.testBit z
        · simp (disch := omega) [↓SW_sQ, ↓SW_sIf, ↓SW_sSk, ↓SW_sRv, ↓SW_sCo, ↓SW_sBr, ↓SW_stI, ↓SW_stA, ↓SW_stJ, ↓SW_inc, ↓SW_pF, ↓SW_fO, ↓SW_aS, ↓SW_aOI, ↓SW_aOJ, ↓SW_exs, ↓SW_sRe, ↓SW_sRr, ↓SW_exv, ↓BW_v, ↓cI_a, ↓cJ_a, ↓cN_a, ↓sC_a, ↓vI_a, ↓vJ_a, ↓vA_a, ↓opI_a, ↓opJ_a, ↓lshl_a, ↓i2l_a, ↓l2i_a, ↓i2b_a, ↓gF_a, ↓aL_a, ↓aN_a, ↓icall_a, ↓cst_a, ↓nw_a, ↓nA_a, ↓cnd_a, ↓bI_a, ↓bJ_a, ↓bNull_a, ↓bNNull_a, ↓bX_a, ↓bA_a, ↓bO_a, ↓bN_a, ↓sSk_a, ↓stI_a, ↓stA_a, ↓stJ_a, ↓inc_a, ↓pF_a, ↓aS_a, ↓fO_a, ↓aOI_a, ↓aOJ_a, ↓exs_a, ↓sRe_a, ↓sRr_a, ↓sRv_a, ↓sCo_a, ↓sBr_a, ↓mA2_a, ↓mA3_a, ↓iadd_a, ↓isub_a, ↓imul_a, ↓iand_a, ↓ior_a, ↓ixor_a, ↓ishl_a, ↓ishr_a, ↓iushr_a, ↓idiv_a, ↓irem_a, ↓ladd_a, ↓lsub_a, ↓lmul_a, ↓land_a, ↓lor_a, ↓ldiv_a, ↓lrem_a, ↓evs_n, ↓evs_a, ↓sK_a, ↓oB_v, List.getElem?_cons_zero, List.getElem?_cons_succ, cat_i, cat_l, cat_r, cat_n, zfi_b0, zfi_b1, ite_mm, ite_vi, ite_vj, ite_and, ite_or, stl1, stl2, zlo, zex, rEq, rNe, rLt, rLe, rGt, rGe, rEqJ, rNeJ, rLtJ, rLeJ, rGtJ, rGeJ, bi_zfi, bi_ne, bi_1, bi_0, zfi_int, zfi_long, -Prod.exists, hT5.1, fR hT5 59 36 rfl rfl, fK hT5 59 36 103 rfl rfl rfl, fL hT5 59 36 1024 rfl rfl rfl, fA hT5 59 36 3 rfl (by decide) rfl, nf_cl, nf_zin, nf_shl, n_or, nf_ar1, FX4_has_eq, c5]
          exact ⟨z + 1, ⟨by omega, rfl⟩, by omega⟩
        · cases c6 : goQ g τ (-1) h z
          · simp (disch := omega) [↓SW_sQ, ↓SW_sIf, ↓SW_sSk, ↓SW_sRv, ↓SW_sCo, ↓SW_sBr, ↓SW_stI, ↓SW_stA, ↓SW_stJ, ↓SW_inc, ↓SW_pF, ↓SW_fO, ↓SW_aS, ↓SW_aOI, ↓SW_aOJ, ↓SW_exs, ↓SW_sRe, ↓SW_sRr, ↓SW_exv, ↓BW_v, ↓cI_a, ↓cJ_a, ↓cN_a, ↓sC_a, ↓vI_a, ↓vJ_a, ↓vA_a, ↓opI_a, ↓opJ_a, ↓lshl_a, ↓i2l_a, ↓l2i_a, ↓i2b_a, ↓gF_a, ↓aL_a, ↓aN_a, ↓icall_a, ↓cst_a, ↓nw_a, ↓nA_a, ↓cnd_a, ↓bI_a, ↓bJ_a, ↓bNull_a, ↓bNNull_a, ↓bX_a, ↓bA_a, ↓bO_a, ↓bN_a, ↓sSk_a, ↓stI_a, ↓stA_a, ↓stJ_a, ↓inc_a, ↓pF_a, ↓aS_a, ↓fO_a, ↓aOI_a, ↓aOJ_a, ↓exs_a, ↓sRe_a, ↓sRr_a, ↓sRv_a, ↓sCo_a, ↓sBr_a, ↓mA2_a, ↓mA3_a, ↓iadd_a, ↓isub_a, ↓imul_a, ↓iand_a, ↓ior_a, ↓ixor_a, ↓ishl_a, ↓ishr_a, ↓iushr_a, ↓idiv_a, ↓irem_a, ↓ladd_a, ↓lsub_a, ↓lmul_a, ↓land_a, ↓lor_a, ↓ldiv_a, ↓lrem_a, ↓evs_n, ↓evs_a, ↓sK_a, ↓oB_v, List.getElem?_cons_zero, List.getElem?_cons_succ, cat_i, cat_l, cat_r, cat_n, zfi_b0, zfi_b1, ite_mm, ite_vi, ite_vj, ite_and, ite_or, stl1, stl2, zlo, zex, rEq, rNe, rLt, rLe, rGt, rGe, rEqJ, rNeJ, rLtJ, rLeJ, rGtJ, rGeJ, bi_zfi, bi_ne, bi_1, bi_0, zfi_int, zfi_long, -Prod.exists, hT5.1, fR hT5 59 36 rfl rfl, fK hT5 59 36 103 rfl rfl rfl, fL hT5 59 36 1024 rfl rfl rfl, fA hT5 59 36 3 rfl (by decide) rfl, nf_cl, nf_zin, nf_shl, n_or, nf_ar1, FX4_has_eq, c5, c6, q5]
            exact ⟨z + 1, ⟨by omega, rfl⟩, by omega⟩
          · have c7 : enR g τ b (h ||| 2 ^ z) = false := by
              rw [c5, c6] at k4
              simpa using k4
            have c8 : h.testBit z = false := by
              unfold goQ at c6
              simp only [Bool.and_eq_true, Bool.not_eq_true'] at c6
              exact c6.1.1.1
            have k5 := or_up c8
            have k6 := sub_le (sub_or hs c5)
            have k3 := hN5 (h ||| 2 ^ z) (by omega) k6
            simp (disch := omega) [↓SW_sQ, ↓SW_sIf, ↓SW_sSk, ↓SW_sRv, ↓SW_sCo, ↓SW_sBr, ↓SW_stI, ↓SW_stA, ↓SW_stJ, ↓SW_inc, ↓SW_pF, ↓SW_fO, ↓SW_aS, ↓SW_aOI, ↓SW_aOJ, ↓SW_exs, ↓SW_sRe, ↓SW_sRr, ↓SW_exv, ↓BW_v, ↓cI_a, ↓cJ_a, ↓cN_a, ↓sC_a, ↓vI_a, ↓vJ_a, ↓vA_a, ↓opI_a, ↓opJ_a, ↓lshl_a, ↓i2l_a, ↓l2i_a, ↓i2b_a, ↓gF_a, ↓aL_a, ↓aN_a, ↓icall_a, ↓cst_a, ↓nw_a, ↓nA_a, ↓cnd_a, ↓bI_a, ↓bJ_a, ↓bNull_a, ↓bNNull_a, ↓bX_a, ↓bA_a, ↓bO_a, ↓bN_a, ↓sSk_a, ↓stI_a, ↓stA_a, ↓stJ_a, ↓inc_a, ↓pF_a, ↓aS_a, ↓fO_a, ↓aOI_a, ↓aOJ_a, ↓exs_a, ↓sRe_a, ↓sRr_a, ↓sRv_a, ↓sCo_a, ↓sBr_a, ↓mA2_a, ↓mA3_a, ↓iadd_a, ↓isub_a, ↓imul_a, ↓iand_a, ↓ior_a, ↓ixor_a, ↓ishl_a, ↓ishr_a, ↓iushr_a, ↓idiv_a, ↓irem_a, ↓ladd_a, ↓lsub_a, ↓lmul_a, ↓land_a, ↓lor_a, ↓ldiv_a, ↓lrem_a, ↓evs_n, ↓evs_a, ↓sK_a, ↓oB_v, List.getElem?_cons_zero, List.getElem?_cons_succ, cat_i, cat_l, cat_r, cat_n, zfi_b0, zfi_b1, ite_mm, ite_vi, ite_vj, ite_and, ite_or, stl1, stl2, zlo, zex, rEq, rNe, rLt, rLe, rGt, rGe, rEqJ, rNeJ, rLtJ, rLeJ, rGtJ, rGeJ, bi_zfi, bi_ne, bi_1, bi_0, zfi_int, zfi_long, -Prod.exists, hT5.1, fR hT5 59 36 rfl rfl, fK hT5 59 36 103 rfl rfl rfl, fL hT5 59 36 1024 rfl rfl rfl, fA hT5 59 36 3 rfl (by decide) rfl, nf_cl, nf_zin, nf_shl, n_or, nf_ar1, FX4_has_eq, c5, c6, q5, k3, c7]
            exact ⟨z + 1, ⟨by omega, rfl⟩, by omega⟩
