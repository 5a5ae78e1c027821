set_option maxRecDepth 100000
def BJ0_init : Sp := (sSq sOI sRv)
def FJ0_init : Fn := mth 11 1 1 BJ0_init
theorem CJ0_init : MetF yJ0_init cJ0_init 1 none 1 12 FJ0_init := met_of (by decide) (by
  intro k K
  have K : Ctx k RJ0 "<init>" cJ0_init none 1 12 := K
  exact (s_seq (p1 := 4) (s_objInit K dJ0_init_0 q176 dJ0_init_1 (Or.inl rfl)) (s_retv K dJ0_init_4)))
def BJ1_init : Sp := (sSq (exv FJ0_init [(1, (vA 0))]) (sSq (pF 10 0 (vA 0) (cI 0)) sRv))
def FJ1_init : Fn := mth 11 1 1 BJ1_init
theorem CJ1_init : MetF yJ1_init cJ1_init 1 none 2 32 FJ1_init := met_of (by decide) (by
  intro k K
  have K : Ctx k RJ1 "<init>" cJ1_init none 2 32 := K
  exact (s_seq (p1 := 4) (s_exv (p1 := 1) K (i_J1_1 CJ0_init mth_recv0) (xs_cons (p1 := 1) (x_aload_n K dJ1_init_0 rfl (Or.inl rfl)) xs_nil) dJ1_init_1 (Or.inl rfl)) (s_seq (p1 := 9) (s_pF (p1 := 5) (p2 := 6) K p_J1_7 (x_aload_n K dJ1_init_4 rfl (Or.inl rfl)) (x_iconst K dJ1_init_5 rfl (Or.inl rfl)) dJ1_init_6 (Or.inl rfl)) (s_retv K dJ1_init_9))))
def BJ2_init : Sp := (sSq (exv FJ1_init [(1, (vA 0))]) (sSq (sIf (bI rGt (vI 1) (cI 0)) (pF 10 1 (vA 0) (nA 10 (vI 1))) sNo) sRv))
def FJ2_init : Fn := mth 11 2 2 BJ2_init
theorem CJ2_init : MetF yJ2_init cJ2_init 2 none 3 52 FJ2_init := met_of (by decide) (by
  intro k K
  have K : Ctx k RJ2 "<init>" cJ2_init none 3 52 := K
  exact (s_seq (p1 := 4) (s_exv (p1 := 1) K (i_J2_1 CJ1_init mth_recv0) (xs_cons (p1 := 1) (x_aload_n K dJ2_init_0 rfl (Or.inl rfl)) xs_nil) dJ2_init_1 (Or.inl rfl)) (s_seq (p1 := 60) (s_ife (pt := 8) (pf := 19) (pg := 16) K (b_Zgt_n (p1 := 5) (tg := 19) K (x_iload_n K dJ2_init_4 rfl (Or.inl rfl)) dJ2_init_5 (by decide) (Or.inl rfl) (Or.inl rfl)) (s_pF (p1 := 9) (p2 := 13) K p_J2_9 (x_aload_n K dJ2_init_8 rfl (Or.inl rfl)) (x_nA (p1 := 10) K an_J2_7 (x_iload_n K dJ2_init_9 rfl (Or.inl rfl)) dJ2_init_10 (Or.inl rfl)) dJ2_init_13 (Or.inl rfl)) dJ2_init_16 (Or.inl rfl) s_no) (s_retv K dJ2_init_60))))
def BJ2_isEmpty : Sp := (sRe .boolean (oB (bI rEq (gF 10 2 (vA 0)) (cI 0))))
def FJ2_isEmpty : Fn := mth 11 1 1 BJ2_isEmpty
theorem CJ2_isEmpty : MetF yJ2_isEmpty cJ2_isEmpty 1 (some .boolean) 1 12 FJ2_isEmpty := met_of (by decide) (by
  intro k K
  have K : Ctx k RJ2 "isEmpty" cJ2_isEmpty (some .boolean) 1 12 := K
  exact (s_ireturn (p1 := 12) K (x_oB (pt := 7) (pg := 8) (pf := 11) K (b_Zeq_n (p1 := 4) (tg := 11) K (x_gF (p1 := 1) K g_J2_48 (x_aload_n K dJ2_isEmpty_0 rfl (Or.inl rfl)) dJ2_isEmpty_1 (Or.inl rfl)) dJ2_isEmpty_4 (by decide) (Or.inl rfl) (Or.inl rfl)) dJ2_isEmpty_7 dJ2_isEmpty_8 (Or.inl rfl) dJ2_isEmpty_11 (Or.inl rfl)) dJ2_isEmpty_12))
def BJ2_size : Sp := (sRe .int (gF 10 2 (vA 0)))
def FJ2_size : Fn := mth 11 1 1 BJ2_size
theorem CJ2_size : MetF yJ2_size cJ2_size 1 (some .int) 1 12 FJ2_size := met_of (by decide) (by
  intro k K
  have K : Ctx k RJ2 "size" cJ2_size (some .int) 1 12 := K
  exact (s_ireturn (p1 := 4) K (x_gF (p1 := 1) K g_J2_48 (x_aload_n K dJ2_size_0 rfl (Or.inl rfl)) dJ2_size_1 (Or.inl rfl)) dJ2_size_4))
def BJ2_add_2 : Sp := (sSq (sIf (bI rEq (vI 3) (aN 10 (vA 2))) sNo sSk) (sSq (aS 10 (vA 2) (vI 3) (vA 1)) (sSq (pF 10 2 (vA 0) (iadd (vI 3) (cI 1))) sRv)))
def FJ2_add_2 : Fn := mth 11 4 4 BJ2_add_2
theorem CJ2_add_2 : MetF yJ2_add_2 cJ2_add_2 4 none 1 12 FJ2_add_2 := met_of (by decide) (by
  intro k K
  have K : Ctx k RJ2 "add" cJ2_add_2 none 1 12 := K
  exact (s_seq (p1 := 11) (s_if2 (pt := 6) (pf := 11) (b_Ieq_n (p1 := 1) (p2 := 3) (tg := 11) K (x_iload_n K dJ2_add_2_0 rfl (Or.inl rfl)) (x_aN (p1 := 2) K aln_10 (x_aload_n K dJ2_add_2_1 rfl (Or.inl rfl)) dJ2_add_2_2 (Or.inl rfl)) dJ2_add_2_3 (by decide) (Or.inl rfl) (Or.inl rfl)) s_no (s_skip (Or.inl rfl))) (s_seq (p1 := 15) (s_aS (p1 := 12) (p2 := 13) (p3 := 14) K ast_10 (x_aload_n K dJ2_add_2_11 rfl (Or.inl rfl)) (x_iload_n K dJ2_add_2_12 rfl (Or.inl rfl)) (x_aload_n K dJ2_add_2_13 rfl (Or.inl rfl)) dJ2_add_2_14 (Or.inl rfl)) (s_seq (p1 := 22) (s_pF (p1 := 16) (p2 := 19) K p_J2_48 (x_aload_n K dJ2_add_2_15 rfl (Or.inl rfl)) (x_iadd (p1 := 17) (p2 := 18) K (x_iload_n K dJ2_add_2_16 rfl (Or.inl rfl)) (x_iconst K dJ2_add_2_17 rfl (Or.inl rfl)) dJ2_add_2_18 (Or.inl rfl)) dJ2_add_2_19 (Or.inl rfl)) (s_retv K dJ2_add_2_22)))))
def BJ2_add : Sp := (sSq (fO 10 0 o_iadd (vA 0) (cI 1)) (sSq (exv FJ2_add_2 [(1, (vA 0)), (1, (vA 1)), (1, (gF 10 1 (vA 0))), (1, (gF 10 2 (vA 0)))]) (sRe .boolean (cI 1))))
def FJ2_add : Fn := mth 11 2 2 BJ2_add
theorem CJ2_add : MetF yJ2_add cJ2_add 2 (some .boolean) 2 35 FJ2_add := met_of (by decide) (by
  intro k K
  have K : Ctx k RJ2 "add" cJ2_add (some .boolean) 2 35 := K
  exact (s_seq (p1 := 10) (s_fO_iadd (p1 := 1) (p4 := 6) K g_J2_63 p_J2_63 (x_aload_n K dJ2_add_0 rfl (Or.inl rfl)) dJ2_add_1 dJ2_add_2 (x_iconst K dJ2_add_5 rfl (Or.inl rfl)) dJ2_add_6 dJ2_add_7 (Or.inl rfl)) (s_seq (p1 := 23) (s_exv (p1 := 20) K (i_J2_131 CJ2_add_2 mth_recv) (xs_cons (p1 := 11) (x_aload_n K dJ2_add_10 rfl (Or.inl rfl)) (xs_cons (p1 := 12) (x_aload_n K dJ2_add_11 rfl (Or.inl rfl)) (xs_cons (p1 := 16) (x_gF (p1 := 13) K g_J2_9 (x_aload_n K dJ2_add_12 rfl (Or.inl rfl)) dJ2_add_13 (Or.inl rfl)) (xs_cons (p1 := 20) (x_gF (p1 := 17) K g_J2_48 (x_aload_n K dJ2_add_16 rfl (Or.inl rfl)) dJ2_add_17 (Or.inl rfl)) xs_nil)))) dJ2_add_20 (Or.inl rfl)) (s_ireturn (p1 := 24) K (x_iconst K dJ2_add_23 rfl (Or.inl rfl)) dJ2_add_24))))
def BJ5_checkIndex : Sp := (sSq (sIf (bO (bI rLt (vI 0) (cI 0)) (bI rGe (vI 0) (vI 1))) sNo sSk) (sRe .int (vI 0)))
def FJ5_checkIndex : Fn := mth 0 3 3 BJ5_checkIndex
theorem CJ5_checkIndex : MetF yJ5_checkIndex cJ5_checkIndex 3 (some .int) 1 12 FJ5_checkIndex := met_of (by decide) (by
  intro k K
  have K : Ctx k RJ5 "checkIndex" cJ5_checkIndex (some .int) 1 12 := K
  exact (s_seq (p1 := 16) (s_if2 (pt := 9) (pf := 16) (b_or (p1 := 4) (b_Zlt_p (p1 := 1) (tg := 9) K (x_iload_n K dJ5_checkIndex_0 rfl (Or.inl rfl)) dJ5_checkIndex_1 (by decide) (Or.inl rfl) (Or.inl rfl)) (b_Ige_n (p1 := 5) (p2 := 6) (tg := 16) K (x_iload_n K dJ5_checkIndex_4 rfl (Or.inl rfl)) (x_iload_n K dJ5_checkIndex_5 rfl (Or.inl rfl)) dJ5_checkIndex_6 (by decide) (Or.inl rfl) (Or.inl rfl))) s_no (s_skip (Or.inl rfl))) (s_ireturn (p1 := 17) K (x_iload_n K dJ5_checkIndex_16 rfl (Or.inl rfl)) dJ5_checkIndex_17)))
def BJ10_checkIndex : Sp := (sRe .int (icall FJ5_checkIndex [(1, (vI 0)), (1, (vI 1)), (1, cN)]))
def FJ10_checkIndex : Fn := mth 0 2 2 BJ10_checkIndex
theorem CJ10_checkIndex : MetF yJ10_checkIndex cJ10_checkIndex 2 (some .int) 2 34 FJ10_checkIndex := met_of (by decide) (by
  intro k K
  have K : Ctx k RJ10 "checkIndex" cJ10_checkIndex (some .int) 2 34 := K
  exact (s_ireturn (p1 := 6) K (x_call (p1 := 3) K (i_J10_105 CJ5_checkIndex mth_len) (xs_cons (p1 := 1) (x_iload_n K dJ10_checkIndex_0 rfl (Or.inl rfl)) (xs_cons (p1 := 2) (x_iload_n K dJ10_checkIndex_1 rfl (Or.inl rfl)) (xs_cons (p1 := 3) (x_null K dJ10_checkIndex_2 (Or.inl rfl)) xs_nil))) dJ10_checkIndex_3 (Or.inl rfl)) dJ10_checkIndex_6))
def BJ2_elementData : Sp := (sRr (aL 10 (gF 10 1 (vA 0)) (vI 1)))
def FJ2_elementData : Fn := mth 11 2 2 BJ2_elementData
theorem CJ2_elementData : MetF yJ2_elementData cJ2_elementData 2 (some (.object "java/lang/Object")) 1 12 FJ2_elementData := met_of (by decide) (by
  intro k K
  have K : Ctx k RJ2 "elementData" cJ2_elementData (some (.object "java/lang/Object")) 1 12 := K
  exact (s_areturn (p1 := 6) K (x_aL (p1 := 4) (p2 := 5) K ald_10 (x_gF (p1 := 1) K g_J2_9 (x_aload_n K dJ2_elementData_0 rfl (Or.inl rfl)) dJ2_elementData_1 (Or.inl rfl)) (x_iload_n K dJ2_elementData_4 rfl (Or.inl rfl)) dJ2_elementData_5 (Or.inl rfl)) dJ2_elementData_6))
def BJ2_get : Sp := (sSq (exs (icall FJ10_checkIndex [(1, (vI 1)), (1, (gF 10 2 (vA 0)))])) (sRr (icall FJ2_elementData [(1, (vA 0)), (1, (vI 1))])))
def FJ2_get : Fn := mth 11 2 2 BJ2_get
theorem CJ2_get : MetF yJ2_get cJ2_get 2 (some (.object "java/lang/Object")) 3 55 FJ2_get := met_of (by decide) (by
  intro k K
  have K : Ctx k RJ2 "get" cJ2_get (some (.object "java/lang/Object")) 3 55 := K
  exact (s_seq (p1 := 9) (s_exs (p1 := 8) K (x_call (p1 := 5) K (i_J2_118 CJ10_checkIndex mth_len) (xs_cons (p1 := 1) (x_iload_n K dJ2_get_0 rfl (Or.inl rfl)) (xs_cons (p1 := 5) (x_gF (p1 := 2) K g_J2_48 (x_aload_n K dJ2_get_1 rfl (Or.inl rfl)) dJ2_get_2 (Or.inl rfl)) xs_nil)) dJ2_get_5 (Or.inl rfl)) dJ2_get_8 (Or.inl rfl)) (s_areturn (p1 := 14) K (x_call (p1 := 11) K (i_J2_123 CJ2_elementData mth_recv) (xs_cons (p1 := 10) (x_aload_n K dJ2_get_9 rfl (Or.inl rfl)) (xs_cons (p1 := 11) (x_iload_n K dJ2_get_10 rfl (Or.inl rfl)) xs_nil)) dJ2_get_11 (Or.inl rfl)) dJ2_get_14)))
def BJ11_bitCount : Sp := (sSq (stI 0 (isub (vI 0) (iand (iushr (vI 0) (cI 1)) (cI 1431655765)))) (sSq (stI 0 (iadd (iand (vI 0) (cI 858993459)) (iand (iushr (vI 0) (cI 2)) (cI 858993459)))) (sSq (stI 0 (iand (iadd (vI 0) (iushr (vI 0) (cI 4))) (cI 252645135))) (sSq (stI 0 (iadd (vI 0) (iushr (vI 0) (cI 8)))) (sSq (stI 0 (iadd (vI 0) (iushr (vI 0) (cI 16)))) (sRe .int (iand (vI 0) (cI 63))))))))
def FJ11_bitCount : Fn := mth 0 1 1 BJ11_bitCount
theorem CJ11_bitCount : MetF yJ11_bitCount cJ11_bitCount 1 (some .int) 1 12 FJ11_bitCount := met_of (by decide) (by
  intro k K
  have K : Ctx k RJ11 "bitCount" cJ11_bitCount (some .int) 1 12 := K
  exact (s_seq (p1 := 10) (s_istore_n (p1 := 9) K (x_isub (p1 := 1) (p2 := 8) K (x_iload_n K dJ11_bitCount_0 rfl (Or.inl rfl)) (x_iand (p1 := 4) (p2 := 7) K (x_iushr (p1 := 2) (p2 := 3) K (x_iload_n K dJ11_bitCount_1 rfl (Or.inl rfl)) (x_iconst K dJ11_bitCount_2 rfl (Or.inl rfl)) dJ11_bitCount_3 (Or.inl rfl)) (x_ldc_w K dJ11_bitCount_4 q819 (Or.inl rfl)) dJ11_bitCount_7 (Or.inl rfl)) dJ11_bitCount_8 (Or.inl rfl)) dJ11_bitCount_9 rfl (Or.inl rfl)) (s_seq (p1 := 24) (s_istore_n (p1 := 23) K (x_iadd (p1 := 15) (p2 := 22) K (x_iand (p1 := 11) (p2 := 14) K (x_iload_n K dJ11_bitCount_10 rfl (Or.inl rfl)) (x_ldc_w K dJ11_bitCount_11 q820 (Or.inl rfl)) dJ11_bitCount_14 (Or.inl rfl)) (x_iand (p1 := 18) (p2 := 21) K (x_iushr (p1 := 16) (p2 := 17) K (x_iload_n K dJ11_bitCount_15 rfl (Or.inl rfl)) (x_iconst K dJ11_bitCount_16 rfl (Or.inl rfl)) dJ11_bitCount_17 (Or.inl rfl)) (x_ldc_w K dJ11_bitCount_18 q820 (Or.inl rfl)) dJ11_bitCount_21 (Or.inl rfl)) dJ11_bitCount_22 (Or.inl rfl)) dJ11_bitCount_23 rfl (Or.inl rfl)) (s_seq (p1 := 34) (s_istore_n (p1 := 33) K (x_iand (p1 := 29) (p2 := 32) K (x_iadd (p1 := 25) (p2 := 28) K (x_iload_n K dJ11_bitCount_24 rfl (Or.inl rfl)) (x_iushr (p1 := 26) (p2 := 27) K (x_iload_n K dJ11_bitCount_25 rfl (Or.inl rfl)) (x_iconst K dJ11_bitCount_26 rfl (Or.inl rfl)) dJ11_bitCount_27 (Or.inl rfl)) dJ11_bitCount_28 (Or.inl rfl)) (x_ldc_w K dJ11_bitCount_29 q821 (Or.inl rfl)) dJ11_bitCount_32 (Or.inl rfl)) dJ11_bitCount_33 rfl (Or.inl rfl)) (s_seq (p1 := 41) (s_istore_n (p1 := 40) K (x_iadd (p1 := 35) (p2 := 39) K (x_iload_n K dJ11_bitCount_34 rfl (Or.inl rfl)) (x_iushr (p1 := 36) (p2 := 38) K (x_iload_n K dJ11_bitCount_35 rfl (Or.inl rfl)) (x_bipush K dJ11_bitCount_36 rfl (Or.inl rfl)) dJ11_bitCount_38 (Or.inl rfl)) dJ11_bitCount_39 (Or.inl rfl)) dJ11_bitCount_40 rfl (Or.inl rfl)) (s_seq (p1 := 48) (s_istore_n (p1 := 47) K (x_iadd (p1 := 42) (p2 := 46) K (x_iload_n K dJ11_bitCount_41 rfl (Or.inl rfl)) (x_iushr (p1 := 43) (p2 := 45) K (x_iload_n K dJ11_bitCount_42 rfl (Or.inl rfl)) (x_bipush K dJ11_bitCount_43 rfl (Or.inl rfl)) dJ11_bitCount_45 (Or.inl rfl)) dJ11_bitCount_46 (Or.inl rfl)) dJ11_bitCount_47 rfl (Or.inl rfl)) (s_ireturn (p1 := 52) K (x_iand (p1 := 49) (p2 := 51) K (x_iload_n K dJ11_bitCount_48 rfl (Or.inl rfl)) (x_bipush K dJ11_bitCount_49 rfl (Or.inl rfl)) dJ11_bitCount_51 (Or.inl rfl)) dJ11_bitCount_52)))))))
