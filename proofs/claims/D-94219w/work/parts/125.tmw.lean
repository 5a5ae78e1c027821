set_option maxRecDepth 100000
theorem stp_up {g : Tg} {nv : Int32} {i h j : Nat} (hj : h.testBit j = true) : (stp g nv i h).testBit j = true := by
  unfold stp
  split
  · rw [Nat.testBit_or, hj]
    rfl
  · exact hj
theorem pas_up {g : Tg} {nv : Int32} {h j : Nat} (hj : h.testBit j = true) : (pas g nv h).testBit j = true :=
  itn_inv (fun h : Nat => h.testBit j = true) _ _ hj fun _ _ _ ha => stp_up ha
theorem clo_up {g : Tg} {nv : Int32} {h j : Nat} (hj : h.testBit j = true) : (clo g nv h).testBit j = true :=
  itn_inv (fun h : Nat => h.testBit j = true) _ _ hj fun _ _ _ ha => pas_up ha
theorem sup_iff {h d : Nat} : h &&& d = d ↔ ∀ i, d.testBit i = true → h.testBit i = true := by
  constructor
  · intro e i hi
    have h1 : (h &&& d).testBit i = true := by rw [e]; exact hi
    rw [Nat.testBit_and] at h1
    simp only [Bool.and_eq_true] at h1
    exact h1.1
  · intro hh
    apply Nat.eq_of_testBit_eq
    intro i
    rw [Nat.testBit_and]
    cases c : d.testBit i
    · simp
    · simp [hh i c]
theorem sup_clo {g : Tg} {nv : Int32} {h d x : Nat} (e : h &&& d = d) : clo g nv (h ||| 2 ^ x) &&& d = d := by
  rw [sup_iff] at e ⊢
  intro i hi
  refine clo_up ?_
  rw [Nat.testBit_or, e i hi]
  rfl
def oK (b : Bool) (n : Nat) : Int32 := if b = true then nI n else -1
theorem FX4_worthOf_eq {g : Tg} {c : Nat} {τ τ1 : Tt} {M : Nat} {μ : Mm} (hT : TV τ1 M μ) (hS : SC τ τ1) (hI : TI g c τ) {T : Nat} (hM : MS g τ T τ1) {t who h p x : Nat} (ht : t ≤ T) (ht2 : t < 25) (hw : who < 2 ^ gm g) (hh : h < 2 ^ gn g) (hd : h &&& hdN τ = hdN τ) (hp : p < gm g) (hx : x < gn g) : FX4_worthOf [.ref M, .int (nI t), .int (nI who), .int (nI h), .int (nI p), .int (nI x)] μ = some (some (.int (oK (okM g t who h p x) (vaM g (valN g) t who h p x))), μ) := by
  have hb := hI.b
  have hp8 := hI.w.b.2.2.2.2.1
  have hG1 := hS.gt hI.g
  have q25 : τ1.2.2.1 25 x = nI (gle g x) := gt25 hG1 x hx
  have q1 := FX4_clearly_eq hT hG1 hI.w hp hx
  have q2 := FX4_hours_eq hT hG1 hI.w hx
  have hho := hI.w.2.2.2.2.2.1 x
  have hho2 := hho.2 hx
  have hcl := (hI.w.2.2.2.2.2.2.2.2.2.1 p x).1
  have hle := hI.w.2.2.2.2.2.2.1 x
  have hla := le_and (h := h) hle
  refine FW_eq (FW_mth ⟨rfl, by simp [zex, Value.category], by simp [hasK, hT.1]⟩ ?_)
  cases c1 : who.testBit p
  · have e0 : okM g t who h p x = false := by simp [okM, c1]
    simp (disch := omega) [BX4_worthOf, ↓SW_sQ, ↓SW_sIf, ↓SW_sSk, ↓SW_sRv, ↓SW_sCo, ↓SW_sBr, ↓SW_stI, ↓SW_stA, ↓SW_stJ, ↓SW_inc, ↓SW_pF, ↓SW_fO, ↓SW_aS, ↓SW_aOI, ↓SW_aOJ, ↓SW_exs, ↓SW_sRe, ↓SW_sRr, ↓SW_exv, ↓BW_v, ↓cI_a, ↓cJ_a, ↓cN_a, ↓sC_a, ↓vI_a, ↓vJ_a, ↓vA_a, ↓opI_a, ↓opJ_a, ↓lshl_a, ↓i2l_a, ↓l2i_a, ↓i2b_a, ↓gF_a, ↓aL_a, ↓aN_a, ↓icall_a, ↓cst_a, ↓nw_a, ↓nA_a, ↓cnd_a, ↓bI_a, ↓bJ_a, ↓bNull_a, ↓bNNull_a, ↓bX_a, ↓bA_a, ↓bO_a, ↓bN_a, ↓sSk_a, ↓stI_a, ↓stA_a, ↓stJ_a, ↓inc_a, ↓pF_a, ↓aS_a, ↓fO_a, ↓aOI_a, ↓aOJ_a, ↓exs_a, ↓sRe_a, ↓sRr_a, ↓sRv_a, ↓sCo_a, ↓sBr_a, ↓mA2_a, ↓mA3_a, ↓iadd_a, ↓isub_a, ↓imul_a, ↓iand_a, ↓ior_a, ↓ixor_a, ↓ishl_a, ↓ishr_a, ↓iushr_a, ↓idiv_a, ↓irem_a, ↓ladd_a, ↓lsub_a, ↓lmul_a, ↓land_a, ↓lor_a, ↓ldiv_a, ↓lrem_a, ↓evs_n, ↓evs_a, ↓sK_a, ↓oB_v, List.getElem?_cons_zero, List.getElem?_cons_succ, cat_i, cat_l, cat_r, cat_n, zfi_b0, zfi_b1, ite_mm, ite_vi, ite_vj, ite_and, ite_or, stl1, stl2, zlo, zex, rEq, rNe, rLt, rLe, rGt, rGe, rEqJ, rNeJ, rLtJ, rLeJ, rGtJ, rGeJ, bi_zfi, bi_ne, bi_1, bi_0, zfi_int, zfi_long, FX4_has_eq, c1, e0, oK]
  cases c2 : knQ g p x
  · have e0 : okM g t who h p x = false := by simp [okM, c2]
    simp (disch := omega) [BX4_worthOf, ↓SW_sQ, ↓SW_sIf, ↓SW_sSk, ↓SW_sRv, ↓SW_sCo, ↓SW_sBr, ↓SW_stI, ↓SW_stA, ↓SW_stJ, ↓SW_inc, ↓SW_pF, ↓SW_fO, ↓SW_aS, ↓SW_aOI, ↓SW_aOJ, ↓SW_exs, ↓SW_sRe, ↓SW_sRr, ↓SW_exv, ↓BW_v, ↓cI_a, ↓cJ_a, ↓cN_a, ↓sC_a, ↓vI_a, ↓vJ_a, ↓vA_a, ↓opI_a, ↓opJ_a, ↓lshl_a, ↓i2l_a, ↓l2i_a, ↓i2b_a, ↓gF_a, ↓aL_a, ↓aN_a, ↓icall_a, ↓cst_a, ↓nw_a, ↓nA_a, ↓cnd_a, ↓bI_a, ↓bJ_a, ↓bNull_a, ↓bNNull_a, ↓bX_a, ↓bA_a, ↓bO_a, ↓bN_a, ↓sSk_a, ↓stI_a, ↓stA_a, ↓stJ_a, ↓inc_a, ↓pF_a, ↓aS_a, ↓fO_a, ↓aOI_a, ↓aOJ_a, ↓exs_a, ↓sRe_a, ↓sRr_a, ↓sRv_a, ↓sCo_a, ↓sBr_a, ↓mA2_a, ↓mA3_a, ↓iadd_a, ↓isub_a, ↓imul_a, ↓iand_a, ↓ior_a, ↓ixor_a, ↓ishl_a, ↓ishr_a, ↓iushr_a, ↓idiv_a, ↓irem_a, ↓ladd_a, ↓lsub_a, ↓lmul_a, ↓land_a, ↓lor_a, ↓ldiv_a, ↓lrem_a, ↓evs_n, ↓evs_a, ↓sK_a, ↓oB_v, List.getElem?_cons_zero, List.getElem?_cons_succ, cat_i, cat_l, cat_r, cat_n, zfi_b0, zfi_b1, ite_mm, ite_vi, ite_vj, ite_and, ite_or, stl1, stl2, zlo, zex, rEq, rNe, rLt, rLe, rGt, rGe, rEqJ, rNeJ, rLtJ, rLeJ, rGtJ, rGeJ, bi_zfi, bi_ne, bi_1, bi_0, zfi_int, zfi_long, FX4_has_eq, c1, q1, knZ hI.w, c2, e0, oK]
  cases c3 : h.testBit x
  · cases c4 : leQ g x h
    · have e0 : okM g t who h p x = false := by simp [okM, c4]
      simp (disch := omega) [BX4_worthOf, ↓SW_sQ, ↓SW_sIf, ↓SW_sSk, ↓SW_sRv, ↓SW_sCo, ↓SW_sBr, ↓SW_stI, ↓SW_stA, ↓SW_stJ, ↓SW_inc, ↓SW_pF, ↓SW_fO, ↓SW_aS, ↓SW_aOI, ↓SW_aOJ, ↓SW_exs, ↓SW_sRe, ↓SW_sRr, ↓SW_exv, ↓BW_v, ↓cI_a, ↓cJ_a, ↓cN_a, ↓sC_a, ↓vI_a, ↓vJ_a, ↓vA_a, ↓opI_a, ↓opJ_a, ↓lshl_a, ↓i2l_a, ↓l2i_a, ↓i2b_a, ↓gF_a, ↓aL_a, ↓aN_a, ↓icall_a, ↓cst_a, ↓nw_a, ↓nA_a, ↓cnd_a, ↓bI_a, ↓bJ_a, ↓bNull_a, ↓bNNull_a, ↓bX_a, ↓bA_a, ↓bO_a, ↓bN_a, ↓sSk_a, ↓stI_a, ↓stA_a, ↓stJ_a, ↓inc_a, ↓pF_a, ↓aS_a, ↓fO_a, ↓aOI_a, ↓aOJ_a, ↓exs_a, ↓sRe_a, ↓sRr_a, ↓sRv_a, ↓sCo_a, ↓sBr_a, ↓mA2_a, ↓mA3_a, ↓iadd_a, ↓isub_a, ↓imul_a, ↓iand_a, ↓ior_a, ↓ixor_a, ↓ishl_a, ↓ishr_a, ↓iushr_a, ↓idiv_a, ↓irem_a, ↓ladd_a, ↓lsub_a, ↓lmul_a, ↓land_a, ↓lor_a, ↓ldiv_a, ↓lrem_a, ↓evs_n, ↓evs_a, ↓sK_a, ↓oB_v, List.getElem?_cons_zero, List.getElem?_cons_succ, cat_i, cat_l, cat_r, cat_n, zfi_b0, zfi_b1, ite_mm, ite_vi, ite_vj, ite_and, ite_or, stl1, stl2, zlo, zex, rEq, rNe, rLt, rLe, rGt, rGe, rEqJ, rNeJ, rLtJ, rLeJ, rGtJ, rGeJ, bi_zfi, bi_ne, bi_1, bi_0, zfi_int, zfi_long, FX4_has_eq, c1, q1, knZ hI.w, c2, c3, hT.1, fR hT 25 13 rfl rfl, fK hT 25 13 100 rfl rfl rfl, fL hT 25 13 10 rfl rfl rfl, fA hT 25 13 0 rfl (by decide) rfl, q25, nf_cl, nf_zin, n_and, leI hI.w, c4, e0, oK]
    · by_cases c5 : gho g x ≤ t
      · have e0 : okM g t who h p x = true := by simp [okM, c1, c2, c3, c4, c5]
        have c5' : ¬ t < gho g x := by omega
        have q3 := FX4_withFollows_eq hT hG1 hI.w (or2_lt hh hx) (-1)
        have q4 := FX4_behind_eq hT hS hI hM (by omega) (t := t) (left := t - gho g x) (who := who) (h := clo g (-1) (h ||| 2 ^ x)) (by omega) ht2 (by omega) (by omega) hw (clo_lt hI.w (or2_lt hh hx)) (sup_clo hd)
        have q5 := FX4_behind_eq hT hS hI hM (by omega) (t := t) (left := t - gho g x) (who := who) (h := h) (by omega) ht2 (by omega) (by omega) hw hh hd
        have b4 := bhV_le hI.w (tab := valN g) (t := t) (left := t - gho g x) (h := clo g (-1) (h ||| 2 ^ x)) hw
        have b5 := bhV_le hI.w (tab := valN g) (t := t) (left := t - gho g x) (h := h) hw
        have b6 : bhV g (valN g) t (t - gho g x) who (clo g (-1) (h ||| 2 ^ x)) ≤ 990000 := by
          unfold bhV
          split
          · exact Nat.div_le_of_le_mul (smN_le hI.w hw fun s hs => valN_b hI.w _ (by omega))
          · exact valN_b hI.w _ hw
        have b7 : bhV g (valN g) t (t - gho g x) who h ≤ 990000 := by
          unfold bhV
          split
          · exact Nat.div_le_of_le_mul (smN_le hI.w hw fun s hs => valN_b hI.w _ (by omega))
          · exact valN_b hI.w _ hw
        have b8 := Nat.mul_le_mul hcl b6
        have b9 := Nat.mul_le_mul (show 16 - gcl g p x ≤ 16 by omega) b7
        have e9 := pk_div (a := gcl g p x * bhV g (valN g) t (t - gho g x) who (clo g (-1) (h ||| 2 ^ x)) + (16 - gcl g p x) * bhV g (valN g) t (t - gho g x) who h) (d := 16) (by omega) (by omega) (by omega)
        rw [show nI 16 = 16 from rfl] at e9
        simp (disch := omega) [BX4_worthOf, ↓SW_sQ, ↓SW_sIf, ↓SW_sSk, ↓SW_sRv, ↓SW_sCo, ↓SW_sBr, ↓SW_stI, ↓SW_stA, ↓SW_stJ, ↓SW_inc, ↓SW_pF, ↓SW_fO, ↓SW_aS, ↓SW_aOI, ↓SW_aOJ, ↓SW_exs, ↓SW_sRe, ↓SW_sRr, ↓SW_exv, ↓BW_v, ↓cI_a, ↓cJ_a, ↓cN_a, ↓sC_a, ↓vI_a, ↓vJ_a, ↓vA_a, ↓opI_a, ↓opJ_a, ↓lshl_a, ↓i2l_a, ↓l2i_a, ↓i2b_a, ↓gF_a, ↓aL_a, ↓aN_a, ↓icall_a, ↓cst_a, ↓nw_a, ↓nA_a, ↓cnd_a, ↓bI_a, ↓bJ_a, ↓bNull_a, ↓bNNull_a, ↓bX_a, ↓bA_a, ↓bO_a, ↓bN_a, ↓sSk_a, ↓stI_a, ↓stA_a, ↓stJ_a, ↓inc_a, ↓pF_a, ↓aS_a, ↓fO_a, ↓aOI_a, ↓aOJ_a, ↓exs_a, ↓sRe_a, ↓sRr_a, ↓sRv_a, ↓sCo_a, ↓sBr_a, ↓mA2_a, ↓mA3_a, ↓iadd_a, ↓isub_a, ↓imul_a, ↓iand_a, ↓ior_a, ↓ixor_a, ↓ishl_a, ↓ishr_a, ↓iushr_a, ↓idiv_a, ↓irem_a, ↓ladd_a, ↓lsub_a, ↓lmul_a, ↓land_a, ↓lor_a, ↓ldiv_a, ↓lrem_a, ↓evs_n, ↓evs_a, ↓sK_a, ↓oB_v, List.getElem?_cons_zero, List.getElem?_cons_succ, cat_i, cat_l, cat_r, cat_n, zfi_b0, zfi_b1, ite_mm, ite_vi, ite_vj, ite_and, ite_or, stl1, stl2, zlo, zex, rEq, rNe, rLt, rLe, rGt, rGe, rEqJ, rNeJ, rLtJ, rLeJ, rGtJ, rGeJ, bi_zfi, bi_ne, bi_1, bi_0, zfi_int, zfi_long, FX4_has_eq, c1, q1, q2, knZ hI.w, c2, c3, hT.1, fR hT 25 13 rfl rfl, fK hT 25 13 100 rfl rfl rfl, fL hT 25 13 10 rfl rfl rfl, fA hT 25 13 0 rfl (by decide) rfl, q25, nf_cl, nf_zin, n_and, n_or, leI hI.w, c4, nf_lt, nf_sub, nf_mul, nf_add, nf_shl, nf_sl16, c5', q3, q4, q5, e9, e0, oK, vaM]
      · have e0 : okM g t who h p x = false := by simp [okM, c5]
        have c5' : t < gho g x := by omega
        simp (disch := omega) [BX4_worthOf, ↓SW_sQ, ↓SW_sIf, ↓SW_sSk, ↓SW_sRv, ↓SW_sCo, ↓SW_sBr, ↓SW_stI, ↓SW_stA, ↓SW_stJ, ↓SW_inc, ↓SW_pF, ↓SW_fO, ↓SW_aS, ↓SW_aOI, ↓SW_aOJ, ↓SW_exs, ↓SW_sRe, ↓SW_sRr, ↓SW_exv, ↓BW_v, ↓cI_a, ↓cJ_a, ↓cN_a, ↓sC_a, ↓vI_a, ↓vJ_a, ↓vA_a, ↓opI_a, ↓opJ_a, ↓lshl_a, ↓i2l_a, ↓l2i_a, ↓i2b_a, ↓gF_a, ↓aL_a, ↓aN_a, ↓icall_a, ↓cst_a, ↓nw_a, ↓nA_a, ↓cnd_a, ↓bI_a, ↓bJ_a, ↓bNull_a, ↓bNNull_a, ↓bX_a, ↓bA_a, ↓bO_a, ↓bN_a, ↓sSk_a, ↓stI_a, ↓stA_a, ↓stJ_a, ↓inc_a, ↓pF_a, ↓aS_a, ↓fO_a, ↓aOI_a, ↓aOJ_a, ↓exs_a, ↓sRe_a, ↓sRr_a, ↓sRv_a, ↓sCo_a, ↓sBr_a, ↓mA2_a, ↓mA3_a, ↓iadd_a, ↓isub_a, ↓imul_a, ↓iand_a, ↓ior_a, ↓ixor_a, ↓ishl_a, ↓ishr_a, ↓iushr_a, ↓idiv_a, ↓irem_a, ↓ladd_a, ↓lsub_a, ↓lmul_a, ↓land_a, ↓lor_a, ↓ldiv_a, ↓lrem_a, ↓evs_n, ↓evs_a, ↓sK_a, ↓oB_v, List.getElem?_cons_zero, List.getElem?_cons_succ, cat_i, cat_l, cat_r, cat_n, zfi_b0, zfi_b1, ite_mm, ite_vi, ite_vj, ite_and, ite_or, stl1, stl2, zlo, zex, rEq, rNe, rLt, rLe, rGt, rGe, rEqJ, rNeJ, rLtJ, rLeJ, rGtJ, rGeJ, bi_zfi, bi_ne, bi_1, bi_0, zfi_int, zfi_long, FX4_has_eq, c1, q1, q2, knZ hI.w, c2, c3, hT.1, fR hT 25 13 rfl rfl, fK hT 25 13 100 rfl rfl rfl, fL hT 25 13 10 rfl rfl rfl, fA hT 25 13 0 rfl (by decide) rfl, q25, nf_cl, nf_zin, n_and, leI hI.w, c4, nf_lt, c5', e0, oK]
  · have e0 : okM g t who h p x = false := by simp [okM, c3]
    simp (disch := omega) [BX4_worthOf, ↓SW_sQ, ↓SW_sIf, ↓SW_sSk, ↓SW_sRv, ↓SW_sCo, ↓SW_sBr, ↓SW_stI, ↓SW_stA, ↓SW_stJ, ↓SW_inc, ↓SW_pF, ↓SW_fO, ↓SW_aS, ↓SW_aOI, ↓SW_aOJ, ↓SW_exs, ↓SW_sRe, ↓SW_sRr, ↓SW_exv, ↓BW_v, ↓cI_a, ↓cJ_a, ↓cN_a, ↓sC_a, ↓vI_a, ↓vJ_a, ↓vA_a, ↓opI_a, ↓opJ_a, ↓lshl_a, ↓i2l_a, ↓l2i_a, ↓i2b_a, ↓gF_a, ↓aL_a, ↓aN_a, ↓icall_a, ↓cst_a, ↓nw_a, ↓nA_a, ↓cnd_a, ↓bI_a, ↓bJ_a, ↓bNull_a, ↓bNNull_a, ↓bX_a, ↓bA_a, ↓bO_a, ↓bN_a, ↓sSk_a, ↓stI_a, ↓stA_a, ↓stJ_a, ↓inc_a, ↓pF_a, ↓aS_a, ↓fO_a, ↓aOI_a, ↓aOJ_a, ↓exs_a, ↓sRe_a, ↓sRr_a, ↓sRv_a, ↓sCo_a, ↓sBr_a, ↓mA2_a, ↓mA3_a, ↓iadd_a, ↓isub_a, ↓imul_a, ↓iand_a, ↓ior_a, ↓ixor_a, ↓ishl_a, ↓ishr_a, ↓iushr_a, ↓idiv_a, ↓irem_a, ↓ladd_a, ↓lsub_a, ↓lmul_a, ↓land_a, ↓lor_a, ↓ldiv_a, ↓lrem_a, ↓evs_n, ↓evs_a, ↓sK_a, ↓oB_v, List.getElem?_cons_zero, List.getElem?_cons_succ, cat_i, cat_l, cat_r, cat_n, zfi_b0, zfi_b1, ite_mm, ite_vi, ite_vj, ite_and, ite_or, stl1, stl2, zlo, zex, rEq, rNe, rLt, rLe, rGt, rGe, rEqJ, rNeJ, rLtJ, rLeJ, rGtJ, rGeJ, bi_zfi, bi_ne, bi_1, bi_0, zfi_int, zfi_long, FX4_has_eq, c1, q1, knZ hI.w, c2, c3, e0, oK]
def oM (a : Om) : Int32 := match a with
  | none => -1
  | some b => nI b.1
theorem max_oM {g : Tg} (w : WG g) {t who h p x : Nat} (hw : who < 2 ^ gm g) {a : Om} (ha : oLe a) (hx : x < gn g) (hv : vaM g (valN g) t who h p x ≤ 990000) : (if oM a < oK (okM g t who h p x) (vaM g (valN g) t who h p x) then oK (okM g t who h p x) (vaM g (valN g) t who h p x) else oM a) = oM (mxx g (valN g) t who h p x a) := by
  unfold mxx oK
  cases c : okM g t who h p x
  · simp only [Bool.false_eq_true, if_false]
    rw [if_neg]
    cases a with
    | none =>
      show ¬ (-1 : Int32) < -1
      decide
    | some b =>
      have hb : b.1 ≤ 990000 := ha
      intro h1
      have h2 := nI_pos' (n := b.1) (by omega)
      exact absurd (Int32.lt_of_le_of_lt h2 h1) (by decide)
  · simp only [if_true]
    cases a with
    | none =>
      rw [if_pos]
      · rfl
      · exact Int32.lt_of_lt_of_le (show (-1 : Int32) < 0 by decide) (nI_pos' (by omega))
    | some b =>
      have hb : b.1 ≤ 990000 := ha
      show (if nI b.1 < _ then _ else nI b.1) = _
      have e1 := nf_lt b.1 (vaM g (valN g) t who h p x) (by omega) (by omega)
      by_cases c2 : b.1 < vaM g (valN g) t who h p x
      · rw [if_pos (e1.mpr c2)]
        simp only [if_pos c2]
        rfl
      · rw [if_neg (fun h => c2 (e1.mp h))]
        simp only [if_neg c2]
        rfl
theorem vaM_b {g : Tg} (w : WG g) {t who h p x : Nat} (hw : who < 2 ^ gm g) : vaM g (valN g) t who h p x ≤ 990000 := by
  have b6 : ∀ h, bhV g (valN g) t (t - gho g x) who h ≤ 990000 := fun h => by
    unfold bhV
    split
    · exact Nat.div_le_of_le_mul (smN_le w hw fun s hs => valN_b w _ (by omega))
    · exact valN_b w _ hw
  unfold vaM
  have h3 := (w.2.2.2.2.2.2.2.2.2.1 p x).1
  refine Nat.div_le_of_le_mul ?_
  have h4 := Nat.mul_le_mul_left (gcl g p x) (b6 (clo g (-1) (h ||| 2 ^ x)))
  have h5 := Nat.mul_le_mul_left (16 - gcl g p x) (b6 h)
  have h6 : gcl g p x * 990000 + (16 - gcl g p x) * 990000 = 16 * 990000 := by
    rw [← Nat.add_mul]
    congr 1
    omega
  omega
theorem mxx_b {g : Tg} (w : WG g) {t who h p x : Nat} (hw : who < 2 ^ gm g) {a : Om} (ha : oLe a) : oLe (mxx g (valN g) t who h p x a) := by
  unfold mxx
  have h3 := vaM_b w (t := t) (h := h) (p := p) (x := x) hw
  split
  · cases a with
    | none => exact h3
    | some b =>
      simp only
      split
      · exact h3
      · exact ha
  · exact ha
theorem mxp_b {g : Tg} (w : WG g) {t who h p : Nat} (hw : who < 2 ^ gm g) {a : Om} (ha : oLe a) : oLe (mxp g (valN g) t who h p a) := itn_inv oLe _ _ ha fun _ _ _ ha => mxx_b w hw ha
theorem mxN_b {g : Tg} (w : WG g) {t who h : Nat} (hw : who < 2 ^ gm g) : oLe (mxN g (valN g) t who h) := itn_inv oLe _ _ trivial fun _ _ _ ha => mxp_b w hw ha
