set_option maxRecDepth 100000
/-! ints as numbers: rules for simp with omega behind -/
theorem nf_add (a b : Nat) : nI a + nI b = nI (a + b) := nI_add a b
theorem nf_mul (a b : Nat) : nI a * nI b = nI (a * b) := pk_mul a b
theorem nf_sub (a b : Nat) (h : b ≤ a) : nI a - nI b = nI (a - b) := pk_sub h
theorem nf_lt (a b : Nat) (ha : a < 2147483648) (hb : b < 2147483648) : nI a < nI b ↔ a < b := nI_ltI ha hb
theorem nf_le (a b : Nat) (ha : a < 2147483648) (hb : b < 2147483648) : nI a ≤ nI b ↔ a ≤ b := nI_leI ha hb
theorem nf_eq (a b : Nat) (ha : a < 2147483648) (hb : b < 2147483648) : nI a = nI b ↔ a = b := nI_eq ha hb
theorem nf_cl (a : Nat) (ha : a < 2147483648) : (nI a).toNatClampNeg = a := nI_clamp ha
theorem nf_zin (a n : Nat) (h : a < n) (hn : n < 2147483648) : zin (nI a) n = true := zin_nI h hn
theorem nf_shl (t : Nat) (ht : t < 31) : (1 : Int32) <<< (nI t &&& 31) = nI (2 ^ t) := n_shl t ht
theorem nf_bit (h t : Nat) (hh : h < 2147483648) (ht : t < 31) : (nI h >>> (nI t &&& 31)) &&& 1 = bi (h.testBit t) := n_bit h t hh ht
theorem nf_m1 (a : Nat) (ha : a < 2147483648) : (nI a = -1) ↔ False := ⟨fun h => by
  have h1 := nI_pos ha
  rw [h] at h1
  exact h1 (by decide), False.elim⟩
theorem nf_m1' (a : Nat) (ha : a < 2147483648) : (-1 = nI a) ↔ False := ⟨fun h => (nf_m1 a ha).mp h.symm, False.elim⟩
theorem nf_bi0 (t : Bool) : (0 = bi t) ↔ t = false := by cases t <;> decide
theorem nf_ltr0 (a : Nat) (ha : a < 2147483648) : nI a < (0 : Int32) ↔ a < 0 := nI_ltI (b := 0) ha (by decide)
theorem nf_ltl0 (a : Nat) (ha : a < 2147483648) : (0 : Int32) < nI a ↔ 0 < a := nI_ltI (a := 0) (by decide) ha
theorem nf_ler0 (a : Nat) (ha : a < 2147483648) : nI a ≤ (0 : Int32) ↔ a ≤ 0 := nI_leI (b := 0) ha (by decide)
theorem nf_lel0 (a : Nat) (ha : a < 2147483648) : (0 : Int32) ≤ nI a ↔ 0 ≤ a := nI_leI (a := 0) (by decide) ha
theorem nf_eqr0 (a : Nat) (ha : a < 2147483648) : nI a = (0 : Int32) ↔ a = 0 := nI_eq (b := 0) ha (by decide)
theorem nf_eql0 (a : Nat) (ha : a < 2147483648) : (0 : Int32) = nI a ↔ 0 = a := nI_eq (a := 0) (by decide) ha
theorem nf_al1 (a : Nat) : (1 : Int32) + nI a = nI (1 + a) := nI_add 1 a
theorem nf_ar1 (a : Nat) : nI a + (1 : Int32) = nI (a + 1) := nI_add a 1
theorem nf_sr1 (a : Nat) (h : 1 ≤ a) : nI a - (1 : Int32) = nI (a - 1) := pk_sub (b := 1) h
theorem nf_ltr1 (a : Nat) (ha : a < 2147483648) : nI a < (1 : Int32) ↔ a < 1 := nI_ltI (b := 1) ha (by decide)
theorem nf_ltl1 (a : Nat) (ha : a < 2147483648) : (1 : Int32) < nI a ↔ 1 < a := nI_ltI (a := 1) (by decide) ha
theorem nf_ler1 (a : Nat) (ha : a < 2147483648) : nI a ≤ (1 : Int32) ↔ a ≤ 1 := nI_leI (b := 1) ha (by decide)
theorem nf_lel1 (a : Nat) (ha : a < 2147483648) : (1 : Int32) ≤ nI a ↔ 1 ≤ a := nI_leI (a := 1) (by decide) ha
theorem nf_eqr1 (a : Nat) (ha : a < 2147483648) : nI a = (1 : Int32) ↔ a = 1 := nI_eq (b := 1) ha (by decide)
theorem nf_eql1 (a : Nat) (ha : a < 2147483648) : (1 : Int32) = nI a ↔ 1 = a := nI_eq (a := 1) (by decide) ha
theorem nf_ml2 (a : Nat) : (2 : Int32) * nI a = nI (2 * a) := pk_mul 2 a
theorem nf_mr2 (a : Nat) : nI a * (2 : Int32) = nI (a * 2) := pk_mul a 2
theorem nf_al2 (a : Nat) : (2 : Int32) + nI a = nI (2 + a) := nI_add 2 a
theorem nf_ar2 (a : Nat) : nI a + (2 : Int32) = nI (a + 2) := nI_add a 2
theorem nf_sr2 (a : Nat) (h : 2 ≤ a) : nI a - (2 : Int32) = nI (a - 2) := pk_sub (b := 2) h
theorem nf_ltr2 (a : Nat) (ha : a < 2147483648) : nI a < (2 : Int32) ↔ a < 2 := nI_ltI (b := 2) ha (by decide)
theorem nf_ltl2 (a : Nat) (ha : a < 2147483648) : (2 : Int32) < nI a ↔ 2 < a := nI_ltI (a := 2) (by decide) ha
theorem nf_ler2 (a : Nat) (ha : a < 2147483648) : nI a ≤ (2 : Int32) ↔ a ≤ 2 := nI_leI (b := 2) ha (by decide)
theorem nf_lel2 (a : Nat) (ha : a < 2147483648) : (2 : Int32) ≤ nI a ↔ 2 ≤ a := nI_leI (a := 2) (by decide) ha
theorem nf_eqr2 (a : Nat) (ha : a < 2147483648) : nI a = (2 : Int32) ↔ a = 2 := nI_eq (b := 2) ha (by decide)
theorem nf_eql2 (a : Nat) (ha : a < 2147483648) : (2 : Int32) = nI a ↔ 2 = a := nI_eq (a := 2) (by decide) ha
theorem nf_ml3 (a : Nat) : (3 : Int32) * nI a = nI (3 * a) := pk_mul 3 a
theorem nf_mr3 (a : Nat) : nI a * (3 : Int32) = nI (a * 3) := pk_mul a 3
theorem nf_al3 (a : Nat) : (3 : Int32) + nI a = nI (3 + a) := nI_add 3 a
theorem nf_ar3 (a : Nat) : nI a + (3 : Int32) = nI (a + 3) := nI_add a 3
theorem nf_sr3 (a : Nat) (h : 3 ≤ a) : nI a - (3 : Int32) = nI (a - 3) := pk_sub (b := 3) h
theorem nf_ltr3 (a : Nat) (ha : a < 2147483648) : nI a < (3 : Int32) ↔ a < 3 := nI_ltI (b := 3) ha (by decide)
theorem nf_ltl3 (a : Nat) (ha : a < 2147483648) : (3 : Int32) < nI a ↔ 3 < a := nI_ltI (a := 3) (by decide) ha
theorem nf_ler3 (a : Nat) (ha : a < 2147483648) : nI a ≤ (3 : Int32) ↔ a ≤ 3 := nI_leI (b := 3) ha (by decide)
theorem nf_lel3 (a : Nat) (ha : a < 2147483648) : (3 : Int32) ≤ nI a ↔ 3 ≤ a := nI_leI (a := 3) (by decide) ha
theorem nf_eqr3 (a : Nat) (ha : a < 2147483648) : nI a = (3 : Int32) ↔ a = 3 := nI_eq (b := 3) ha (by decide)
theorem nf_eql3 (a : Nat) (ha : a < 2147483648) : (3 : Int32) = nI a ↔ 3 = a := nI_eq (a := 3) (by decide) ha
theorem nf_ml4 (a : Nat) : (4 : Int32) * nI a = nI (4 * a) := pk_mul 4 a
theorem nf_mr4 (a : Nat) : nI a * (4 : Int32) = nI (a * 4) := pk_mul a 4
theorem nf_al4 (a : Nat) : (4 : Int32) + nI a = nI (4 + a) := nI_add 4 a
theorem nf_ar4 (a : Nat) : nI a + (4 : Int32) = nI (a + 4) := nI_add a 4
theorem nf_sr4 (a : Nat) (h : 4 ≤ a) : nI a - (4 : Int32) = nI (a - 4) := pk_sub (b := 4) h
theorem nf_ltr4 (a : Nat) (ha : a < 2147483648) : nI a < (4 : Int32) ↔ a < 4 := nI_ltI (b := 4) ha (by decide)
theorem nf_ltl4 (a : Nat) (ha : a < 2147483648) : (4 : Int32) < nI a ↔ 4 < a := nI_ltI (a := 4) (by decide) ha
theorem nf_ler4 (a : Nat) (ha : a < 2147483648) : nI a ≤ (4 : Int32) ↔ a ≤ 4 := nI_leI (b := 4) ha (by decide)
theorem nf_lel4 (a : Nat) (ha : a < 2147483648) : (4 : Int32) ≤ nI a ↔ 4 ≤ a := nI_leI (a := 4) (by decide) ha
theorem nf_eqr4 (a : Nat) (ha : a < 2147483648) : nI a = (4 : Int32) ↔ a = 4 := nI_eq (b := 4) ha (by decide)
theorem nf_eql4 (a : Nat) (ha : a < 2147483648) : (4 : Int32) = nI a ↔ 4 = a := nI_eq (a := 4) (by decide) ha
theorem nf_ml8 (a : Nat) : (8 : Int32) * nI a = nI (8 * a) := pk_mul 8 a
theorem nf_mr8 (a : Nat) : nI a * (8 : Int32) = nI (a * 8) := pk_mul a 8
theorem nf_ltr8 (a : Nat) (ha : a < 2147483648) : nI a < (8 : Int32) ↔ a < 8 := nI_ltI (b := 8) ha (by decide)
theorem nf_ltl8 (a : Nat) (ha : a < 2147483648) : (8 : Int32) < nI a ↔ 8 < a := nI_ltI (a := 8) (by decide) ha
theorem nf_ler8 (a : Nat) (ha : a < 2147483648) : nI a ≤ (8 : Int32) ↔ a ≤ 8 := nI_leI (b := 8) ha (by decide)
theorem nf_lel8 (a : Nat) (ha : a < 2147483648) : (8 : Int32) ≤ nI a ↔ 8 ≤ a := nI_leI (a := 8) (by decide) ha
theorem nf_eqr8 (a : Nat) (ha : a < 2147483648) : nI a = (8 : Int32) ↔ a = 8 := nI_eq (b := 8) ha (by decide)
theorem nf_eql8 (a : Nat) (ha : a < 2147483648) : (8 : Int32) = nI a ↔ 8 = a := nI_eq (a := 8) (by decide) ha
theorem nf_ml10 (a : Nat) : (10 : Int32) * nI a = nI (10 * a) := pk_mul 10 a
theorem nf_mr10 (a : Nat) : nI a * (10 : Int32) = nI (a * 10) := pk_mul a 10
theorem nf_al10 (a : Nat) : (10 : Int32) + nI a = nI (10 + a) := nI_add 10 a
theorem nf_ar10 (a : Nat) : nI a + (10 : Int32) = nI (a + 10) := nI_add a 10
theorem nf_sr10 (a : Nat) (h : 10 ≤ a) : nI a - (10 : Int32) = nI (a - 10) := pk_sub (b := 10) h
theorem nf_ltr10 (a : Nat) (ha : a < 2147483648) : nI a < (10 : Int32) ↔ a < 10 := nI_ltI (b := 10) ha (by decide)
theorem nf_ltl10 (a : Nat) (ha : a < 2147483648) : (10 : Int32) < nI a ↔ 10 < a := nI_ltI (a := 10) (by decide) ha
theorem nf_ler10 (a : Nat) (ha : a < 2147483648) : nI a ≤ (10 : Int32) ↔ a ≤ 10 := nI_leI (b := 10) ha (by decide)
theorem nf_lel10 (a : Nat) (ha : a < 2147483648) : (10 : Int32) ≤ nI a ↔ 10 ≤ a := nI_leI (a := 10) (by decide) ha
theorem nf_eqr10 (a : Nat) (ha : a < 2147483648) : nI a = (10 : Int32) ↔ a = 10 := nI_eq (b := 10) ha (by decide)
theorem nf_eql10 (a : Nat) (ha : a < 2147483648) : (10 : Int32) = nI a ↔ 10 = a := nI_eq (a := 10) (by decide) ha
theorem nf_ltr12 (a : Nat) (ha : a < 2147483648) : nI a < (12 : Int32) ↔ a < 12 := nI_ltI (b := 12) ha (by decide)
theorem nf_ltl12 (a : Nat) (ha : a < 2147483648) : (12 : Int32) < nI a ↔ 12 < a := nI_ltI (a := 12) (by decide) ha
theorem nf_ler12 (a : Nat) (ha : a < 2147483648) : nI a ≤ (12 : Int32) ↔ a ≤ 12 := nI_leI (b := 12) ha (by decide)
theorem nf_lel12 (a : Nat) (ha : a < 2147483648) : (12 : Int32) ≤ nI a ↔ 12 ≤ a := nI_leI (a := 12) (by decide) ha
theorem nf_eqr12 (a : Nat) (ha : a < 2147483648) : nI a = (12 : Int32) ↔ a = 12 := nI_eq (b := 12) ha (by decide)
theorem nf_eql12 (a : Nat) (ha : a < 2147483648) : (12 : Int32) = nI a ↔ 12 = a := nI_eq (a := 12) (by decide) ha
theorem nf_ltr14 (a : Nat) (ha : a < 2147483648) : nI a < (14 : Int32) ↔ a < 14 := nI_ltI (b := 14) ha (by decide)
theorem nf_ltl14 (a : Nat) (ha : a < 2147483648) : (14 : Int32) < nI a ↔ 14 < a := nI_ltI (a := 14) (by decide) ha
theorem nf_ler14 (a : Nat) (ha : a < 2147483648) : nI a ≤ (14 : Int32) ↔ a ≤ 14 := nI_leI (b := 14) ha (by decide)
theorem nf_lel14 (a : Nat) (ha : a < 2147483648) : (14 : Int32) ≤ nI a ↔ 14 ≤ a := nI_leI (a := 14) (by decide) ha
theorem nf_eqr14 (a : Nat) (ha : a < 2147483648) : nI a = (14 : Int32) ↔ a = 14 := nI_eq (b := 14) ha (by decide)
theorem nf_eql14 (a : Nat) (ha : a < 2147483648) : (14 : Int32) = nI a ↔ 14 = a := nI_eq (a := 14) (by decide) ha
theorem nf_ml16 (a : Nat) : (16 : Int32) * nI a = nI (16 * a) := pk_mul 16 a
theorem nf_mr16 (a : Nat) : nI a * (16 : Int32) = nI (a * 16) := pk_mul a 16
theorem nf_al16 (a : Nat) : (16 : Int32) + nI a = nI (16 + a) := nI_add 16 a
theorem nf_ar16 (a : Nat) : nI a + (16 : Int32) = nI (a + 16) := nI_add a 16
theorem nf_sr16 (a : Nat) (h : 16 ≤ a) : nI a - (16 : Int32) = nI (a - 16) := pk_sub (b := 16) h
theorem nf_sl16 (a : Nat) (h : a ≤ 16) : (16 : Int32) - nI a = nI (16 - a) := pk_sub (a := 16) h
theorem nf_ltr16 (a : Nat) (ha : a < 2147483648) : nI a < (16 : Int32) ↔ a < 16 := nI_ltI (b := 16) ha (by decide)
theorem nf_ltl16 (a : Nat) (ha : a < 2147483648) : (16 : Int32) < nI a ↔ 16 < a := nI_ltI (a := 16) (by decide) ha
theorem nf_ler16 (a : Nat) (ha : a < 2147483648) : nI a ≤ (16 : Int32) ↔ a ≤ 16 := nI_leI (b := 16) ha (by decide)
theorem nf_lel16 (a : Nat) (ha : a < 2147483648) : (16 : Int32) ≤ nI a ↔ 16 ≤ a := nI_leI (a := 16) (by decide) ha
theorem nf_eqr16 (a : Nat) (ha : a < 2147483648) : nI a = (16 : Int32) ↔ a = 16 := nI_eq (b := 16) ha (by decide)
theorem nf_eql16 (a : Nat) (ha : a < 2147483648) : (16 : Int32) = nI a ↔ 16 = a := nI_eq (a := 16) (by decide) ha
theorem nf_al20 (a : Nat) : (20 : Int32) + nI a = nI (20 + a) := nI_add 20 a
theorem nf_ar20 (a : Nat) : nI a + (20 : Int32) = nI (a + 20) := nI_add a 20
theorem nf_sr20 (a : Nat) (h : 20 ≤ a) : nI a - (20 : Int32) = nI (a - 20) := pk_sub (b := 20) h
theorem nf_ltr20 (a : Nat) (ha : a < 2147483648) : nI a < (20 : Int32) ↔ a < 20 := nI_ltI (b := 20) ha (by decide)
theorem nf_ltl20 (a : Nat) (ha : a < 2147483648) : (20 : Int32) < nI a ↔ 20 < a := nI_ltI (a := 20) (by decide) ha
theorem nf_ler20 (a : Nat) (ha : a < 2147483648) : nI a ≤ (20 : Int32) ↔ a ≤ 20 := nI_leI (b := 20) ha (by decide)
theorem nf_lel20 (a : Nat) (ha : a < 2147483648) : (20 : Int32) ≤ nI a ↔ 20 ≤ a := nI_leI (a := 20) (by decide) ha
theorem nf_eqr20 (a : Nat) (ha : a < 2147483648) : nI a = (20 : Int32) ↔ a = 20 := nI_eq (b := 20) ha (by decide)
theorem nf_eql20 (a : Nat) (ha : a < 2147483648) : (20 : Int32) = nI a ↔ 20 = a := nI_eq (a := 20) (by decide) ha
theorem nf_sl24 (a : Nat) (h : a ≤ 24) : (24 : Int32) - nI a = nI (24 - a) := pk_sub (a := 24) h
theorem nf_ltr24 (a : Nat) (ha : a < 2147483648) : nI a < (24 : Int32) ↔ a < 24 := nI_ltI (b := 24) ha (by decide)
theorem nf_ltl24 (a : Nat) (ha : a < 2147483648) : (24 : Int32) < nI a ↔ 24 < a := nI_ltI (a := 24) (by decide) ha
theorem nf_ler24 (a : Nat) (ha : a < 2147483648) : nI a ≤ (24 : Int32) ↔ a ≤ 24 := nI_leI (b := 24) ha (by decide)
theorem nf_lel24 (a : Nat) (ha : a < 2147483648) : (24 : Int32) ≤ nI a ↔ 24 ≤ a := nI_leI (a := 24) (by decide) ha
theorem nf_eqr24 (a : Nat) (ha : a < 2147483648) : nI a = (24 : Int32) ↔ a = 24 := nI_eq (b := 24) ha (by decide)
theorem nf_eql24 (a : Nat) (ha : a < 2147483648) : (24 : Int32) = nI a ↔ 24 = a := nI_eq (a := 24) (by decide) ha
theorem nf_sl30 (a : Nat) (h : a ≤ 30) : (30 : Int32) - nI a = nI (30 - a) := pk_sub (a := 30) h
theorem nf_ltr30 (a : Nat) (ha : a < 2147483648) : nI a < (30 : Int32) ↔ a < 30 := nI_ltI (b := 30) ha (by decide)
theorem nf_ltl30 (a : Nat) (ha : a < 2147483648) : (30 : Int32) < nI a ↔ 30 < a := nI_ltI (a := 30) (by decide) ha
theorem nf_ler30 (a : Nat) (ha : a < 2147483648) : nI a ≤ (30 : Int32) ↔ a ≤ 30 := nI_leI (b := 30) ha (by decide)
theorem nf_lel30 (a : Nat) (ha : a < 2147483648) : (30 : Int32) ≤ nI a ↔ 30 ≤ a := nI_leI (a := 30) (by decide) ha
theorem nf_eqr30 (a : Nat) (ha : a < 2147483648) : nI a = (30 : Int32) ↔ a = 30 := nI_eq (b := 30) ha (by decide)
theorem nf_eql30 (a : Nat) (ha : a < 2147483648) : (30 : Int32) = nI a ↔ 30 = a := nI_eq (a := 30) (by decide) ha
theorem nf_ltr40 (a : Nat) (ha : a < 2147483648) : nI a < (40 : Int32) ↔ a < 40 := nI_ltI (b := 40) ha (by decide)
theorem nf_ltl40 (a : Nat) (ha : a < 2147483648) : (40 : Int32) < nI a ↔ 40 < a := nI_ltI (a := 40) (by decide) ha
theorem nf_ler40 (a : Nat) (ha : a < 2147483648) : nI a ≤ (40 : Int32) ↔ a ≤ 40 := nI_leI (b := 40) ha (by decide)
theorem nf_lel40 (a : Nat) (ha : a < 2147483648) : (40 : Int32) ≤ nI a ↔ 40 ≤ a := nI_leI (a := 40) (by decide) ha
theorem nf_eqr40 (a : Nat) (ha : a < 2147483648) : nI a = (40 : Int32) ↔ a = 40 := nI_eq (b := 40) ha (by decide)
theorem nf_eql40 (a : Nat) (ha : a < 2147483648) : (40 : Int32) = nI a ↔ 40 = a := nI_eq (a := 40) (by decide) ha
theorem nf_ltr60 (a : Nat) (ha : a < 2147483648) : nI a < (60 : Int32) ↔ a < 60 := nI_ltI (b := 60) ha (by decide)
theorem nf_ltl60 (a : Nat) (ha : a < 2147483648) : (60 : Int32) < nI a ↔ 60 < a := nI_ltI (a := 60) (by decide) ha
theorem nf_ler60 (a : Nat) (ha : a < 2147483648) : nI a ≤ (60 : Int32) ↔ a ≤ 60 := nI_leI (b := 60) ha (by decide)
theorem nf_lel60 (a : Nat) (ha : a < 2147483648) : (60 : Int32) ≤ nI a ↔ 60 ≤ a := nI_leI (a := 60) (by decide) ha
theorem nf_eqr60 (a : Nat) (ha : a < 2147483648) : nI a = (60 : Int32) ↔ a = 60 := nI_eq (b := 60) ha (by decide)
theorem nf_eql60 (a : Nat) (ha : a < 2147483648) : (60 : Int32) = nI a ↔ 60 = a := nI_eq (a := 60) (by decide) ha
theorem nf_ltr90 (a : Nat) (ha : a < 2147483648) : nI a < (90 : Int32) ↔ a < 90 := nI_ltI (b := 90) ha (by decide)
theorem nf_ltl90 (a : Nat) (ha : a < 2147483648) : (90 : Int32) < nI a ↔ 90 < a := nI_ltI (a := 90) (by decide) ha
theorem nf_ler90 (a : Nat) (ha : a < 2147483648) : nI a ≤ (90 : Int32) ↔ a ≤ 90 := nI_leI (b := 90) ha (by decide)
theorem nf_lel90 (a : Nat) (ha : a < 2147483648) : (90 : Int32) ≤ nI a ↔ 90 ≤ a := nI_leI (a := 90) (by decide) ha
theorem nf_eqr90 (a : Nat) (ha : a < 2147483648) : nI a = (90 : Int32) ↔ a = 90 := nI_eq (b := 90) ha (by decide)
theorem nf_eql90 (a : Nat) (ha : a < 2147483648) : (90 : Int32) = nI a ↔ 90 = a := nI_eq (a := 90) (by decide) ha
theorem nf_al100 (a : Nat) : (100 : Int32) + nI a = nI (100 + a) := nI_add 100 a
theorem nf_ar100 (a : Nat) : nI a + (100 : Int32) = nI (a + 100) := nI_add a 100
theorem nf_sr100 (a : Nat) (h : 100 ≤ a) : nI a - (100 : Int32) = nI (a - 100) := pk_sub (b := 100) h
theorem nf_ltr100 (a : Nat) (ha : a < 2147483648) : nI a < (100 : Int32) ↔ a < 100 := nI_ltI (b := 100) ha (by decide)
theorem nf_ltl100 (a : Nat) (ha : a < 2147483648) : (100 : Int32) < nI a ↔ 100 < a := nI_ltI (a := 100) (by decide) ha
theorem nf_ler100 (a : Nat) (ha : a < 2147483648) : nI a ≤ (100 : Int32) ↔ a ≤ 100 := nI_leI (b := 100) ha (by decide)
theorem nf_lel100 (a : Nat) (ha : a < 2147483648) : (100 : Int32) ≤ nI a ↔ 100 ≤ a := nI_leI (a := 100) (by decide) ha
theorem nf_eqr100 (a : Nat) (ha : a < 2147483648) : nI a = (100 : Int32) ↔ a = 100 := nI_eq (b := 100) ha (by decide)
theorem nf_eql100 (a : Nat) (ha : a < 2147483648) : (100 : Int32) = nI a ↔ 100 = a := nI_eq (a := 100) (by decide) ha
theorem nf_ml120 (a : Nat) : (120 : Int32) * nI a = nI (120 * a) := pk_mul 120 a
theorem nf_mr120 (a : Nat) : nI a * (120 : Int32) = nI (a * 120) := pk_mul a 120
theorem nf_ltr120 (a : Nat) (ha : a < 2147483648) : nI a < (120 : Int32) ↔ a < 120 := nI_ltI (b := 120) ha (by decide)
theorem nf_ltl120 (a : Nat) (ha : a < 2147483648) : (120 : Int32) < nI a ↔ 120 < a := nI_ltI (a := 120) (by decide) ha
theorem nf_ler120 (a : Nat) (ha : a < 2147483648) : nI a ≤ (120 : Int32) ↔ a ≤ 120 := nI_leI (b := 120) ha (by decide)
theorem nf_lel120 (a : Nat) (ha : a < 2147483648) : (120 : Int32) ≤ nI a ↔ 120 ≤ a := nI_leI (a := 120) (by decide) ha
theorem nf_eqr120 (a : Nat) (ha : a < 2147483648) : nI a = (120 : Int32) ↔ a = 120 := nI_eq (b := 120) ha (by decide)
theorem nf_eql120 (a : Nat) (ha : a < 2147483648) : (120 : Int32) = nI a ↔ 120 = a := nI_eq (a := 120) (by decide) ha
theorem nf_ml160 (a : Nat) : (160 : Int32) * nI a = nI (160 * a) := pk_mul 160 a
theorem nf_mr160 (a : Nat) : nI a * (160 : Int32) = nI (a * 160) := pk_mul a 160
theorem nf_ltr160 (a : Nat) (ha : a < 2147483648) : nI a < (160 : Int32) ↔ a < 160 := nI_ltI (b := 160) ha (by decide)
theorem nf_ltl160 (a : Nat) (ha : a < 2147483648) : (160 : Int32) < nI a ↔ 160 < a := nI_ltI (a := 160) (by decide) ha
theorem nf_ler160 (a : Nat) (ha : a < 2147483648) : nI a ≤ (160 : Int32) ↔ a ≤ 160 := nI_leI (b := 160) ha (by decide)
theorem nf_lel160 (a : Nat) (ha : a < 2147483648) : (160 : Int32) ≤ nI a ↔ 160 ≤ a := nI_leI (a := 160) (by decide) ha
theorem nf_eqr160 (a : Nat) (ha : a < 2147483648) : nI a = (160 : Int32) ↔ a = 160 := nI_eq (b := 160) ha (by decide)
theorem nf_eql160 (a : Nat) (ha : a < 2147483648) : (160 : Int32) = nI a ↔ 160 = a := nI_eq (a := 160) (by decide) ha
theorem nf_ltr500 (a : Nat) (ha : a < 2147483648) : nI a < (500 : Int32) ↔ a < 500 := nI_ltI (b := 500) ha (by decide)
theorem nf_ltl500 (a : Nat) (ha : a < 2147483648) : (500 : Int32) < nI a ↔ 500 < a := nI_ltI (a := 500) (by decide) ha
theorem nf_ler500 (a : Nat) (ha : a < 2147483648) : nI a ≤ (500 : Int32) ↔ a ≤ 500 := nI_leI (b := 500) ha (by decide)
theorem nf_lel500 (a : Nat) (ha : a < 2147483648) : (500 : Int32) ≤ nI a ↔ 500 ≤ a := nI_leI (a := 500) (by decide) ha
theorem nf_eqr500 (a : Nat) (ha : a < 2147483648) : nI a = (500 : Int32) ↔ a = 500 := nI_eq (b := 500) ha (by decide)
theorem nf_eql500 (a : Nat) (ha : a < 2147483648) : (500 : Int32) = nI a ↔ 500 = a := nI_eq (a := 500) (by decide) ha
theorem nf_ml1000 (a : Nat) : (1000 : Int32) * nI a = nI (1000 * a) := pk_mul 1000 a
theorem nf_mr1000 (a : Nat) : nI a * (1000 : Int32) = nI (a * 1000) := pk_mul a 1000
theorem nf_ltr1000 (a : Nat) (ha : a < 2147483648) : nI a < (1000 : Int32) ↔ a < 1000 := nI_ltI (b := 1000) ha (by decide)
theorem nf_ltl1000 (a : Nat) (ha : a < 2147483648) : (1000 : Int32) < nI a ↔ 1000 < a := nI_ltI (a := 1000) (by decide) ha
theorem nf_ler1000 (a : Nat) (ha : a < 2147483648) : nI a ≤ (1000 : Int32) ↔ a ≤ 1000 := nI_leI (b := 1000) ha (by decide)
theorem nf_lel1000 (a : Nat) (ha : a < 2147483648) : (1000 : Int32) ≤ nI a ↔ 1000 ≤ a := nI_leI (a := 1000) (by decide) ha
theorem nf_eqr1000 (a : Nat) (ha : a < 2147483648) : nI a = (1000 : Int32) ↔ a = 1000 := nI_eq (b := 1000) ha (by decide)
theorem nf_eql1000 (a : Nat) (ha : a < 2147483648) : (1000 : Int32) = nI a ↔ 1000 = a := nI_eq (a := 1000) (by decide) ha
theorem nf_ml1024 (a : Nat) : (1024 : Int32) * nI a = nI (1024 * a) := pk_mul 1024 a
theorem nf_mr1024 (a : Nat) : nI a * (1024 : Int32) = nI (a * 1024) := pk_mul a 1024
theorem nf_ltr1024 (a : Nat) (ha : a < 2147483648) : nI a < (1024 : Int32) ↔ a < 1024 := nI_ltI (b := 1024) ha (by decide)
theorem nf_ltl1024 (a : Nat) (ha : a < 2147483648) : (1024 : Int32) < nI a ↔ 1024 < a := nI_ltI (a := 1024) (by decide) ha
theorem nf_ler1024 (a : Nat) (ha : a < 2147483648) : nI a ≤ (1024 : Int32) ↔ a ≤ 1024 := nI_leI (b := 1024) ha (by decide)
theorem nf_lel1024 (a : Nat) (ha : a < 2147483648) : (1024 : Int32) ≤ nI a ↔ 1024 ≤ a := nI_leI (a := 1024) (by decide) ha
theorem nf_eqr1024 (a : Nat) (ha : a < 2147483648) : nI a = (1024 : Int32) ↔ a = 1024 := nI_eq (b := 1024) ha (by decide)
theorem nf_eql1024 (a : Nat) (ha : a < 2147483648) : (1024 : Int32) = nI a ↔ 1024 = a := nI_eq (a := 1024) (by decide) ha

def anyB (f : Nat → Bool) : Nat → Bool
  | 0 => false
  | n + 1 => anyB f n || f n
theorem anyB_t {f : Nat → Bool} : ∀ {n : Nat}, anyB f n = true ↔ ∃ i, i < n ∧ f i = true := by
  intro n
  induction n with
  | zero =>
    constructor
    · intro h
      cases h
    · rintro ⟨i, hi, -⟩
      omega
  | succ n ih =>
    constructor
    · intro h
      simp only [anyB, Bool.or_eq_true] at h
      rcases h with h | h
      · obtain ⟨i, hi, h⟩ := ih.mp h
        exact ⟨i, by omega, h⟩
      · exact ⟨n, by omega, h⟩
    · rintro ⟨i, hi, h⟩
      simp only [anyB, Bool.or_eq_true]
      by_cases e : i = n
      · subst e
        exact Or.inr h
      · exact Or.inl (ih.mpr ⟨i, by omega, h⟩)
theorem anyB_f {f : Nat → Bool} {n : Nat} (h : ∀ i, i < n → f i = false) : anyB f n = false := by
  cases c : anyB f n
  · rfl
  · obtain ⟨i, hi, e⟩ := anyB_t.mp c
    rw [h i hi] at e
    cases e
theorem anyB_fi {f : Nat → Bool} {n : Nat} (h : anyB f n = false) (i : Nat) (hi : i < n) : f i = false := by
  cases c : f i
  · rfl
  · have := anyB_t.mpr ⟨i, hi, c⟩
    rw [h] at this
    cases this
theorem anyB_congr {f f' : Nat → Bool} {n : Nat} (h : ∀ i, i < n → f i = f' i) : anyB f n = anyB f' n := by
  induction n with
  | zero => rfl
  | succ n ih => simp only [anyB, ih fun i hi => h i (by omega), h n (by omega)]
theorem itn_congr {α : Type} {f f' : Nat → α → α} : ∀ {n : Nat} {a : α}, (∀ i a, i < n → f i a = f' i a) → itn f n a = itn f' n a := by
  intro n
  induction n with
  | zero => intro a _; rfl
  | succ n ih => intro a h; simp only [itn, ih fun i a hi => h i a (by omega), h n _ (by omega)]
/-- loops that search, and return where they find -/
theorem SW_srch {b : Bp} {s u : Sp} {Q : Nat → Option Value → List Value → Mm → Prop} (n : Nat) (f : Nat → Bool) (E : Nat → List Value → Mm → Prop) {L : List Value} {μ : Mm} (hn : n < 1000000) (hE : E 0 L μ)
    (step : ∀ i L μ, i < n → (∀ j, j < i → f j = false) → E i L μ → BW b L μ (fun t μ1 => μ1 = μ ∧ t = true ∧ SW s L μ (fun o v L2 μ2 => if f i = true then o = 1 ∧ Q 1 v L2 μ2 else (o = 0 ∨ o = 2) ∧ SW u L2 μ2 (fun o' _ L3 μ3 => o' = 0 ∧ E (i + 1) L3 μ3))))
    (last : ∀ L μ, E n L μ → BW b L μ (fun t μ1 => μ1 = μ ∧ t = false))
    (done : ∀ L μ, (∀ j, j < n → f j = false) → E n L μ → Q 0 none L μ) : SW (wh b s u) L μ Q := by
  refine SW_inv (fun (i : Nat) L μ => (i ≤ n ∧ ∀ j, j < i → f j = false) ∧ E i L μ) (fun i => n - i) (a := 0) (by omega) ⟨⟨Nat.zero_le _, fun j hj => by omega⟩, hE⟩ ?_
  intro i L μ ⟨⟨hi, hf⟩, hE⟩
  by_cases h : i = n
  · subst h
    have hl := last L μ hE
    rw [BW_v] at hl ⊢
    split at hl
    · obtain ⟨rfl, rfl⟩ := hl
      exact ⟨rfl, by simpa using done L _ hf hE⟩
    · exact hl.elim
  · have hs := step i L μ (by omega) hf hE
    rw [BW_v] at hs ⊢
    split at hs
    · obtain ⟨rfl, rfl, hs⟩ := hs
      refine ⟨rfl, ?_⟩
      rw [if_pos rfl]
      refine SW_mono hs ?_
      intro o v L2 μ2 h2
      by_cases c : f i = true
      · rw [if_pos c] at h2
        exact Or.inl h2
      · rw [if_neg c] at h2
        exact Or.inr (Or.inr ⟨h2.1, SW_mono h2.2 fun o' v' L3 μ3 ⟨h3, h4⟩ => ⟨h3, i + 1, ⟨⟨by omega, fun j hj => by
          by_cases e : j = i
          · subst e
            simpa using c
          · exact hf j (by omega)⟩, h4⟩, by omega⟩⟩)
    · exact hs.elim
theorem FW_get {F : Fn} {As : List Value} {μ : Mm} {Q : Option Value → Mm → Prop} (h : FW F As μ Q) : ∃ v μ', F As μ = some (v, μ') ∧ Q v μ' := h
theorem SW_sw (e : Xp) (lo : Int) (cs : List Sp) (d : Sp) (L : List Value) (μ : Mm) (Q : Nat → Option Value → List Value → Mm → Prop) : SW (sw e lo cs d) L μ Q = (match e L μ with
  | some (.int x, μ1) => if x.toInt < lo then SW d L μ1 (fun o v L' μ' => Q (if o = 3 then 0 else o) (if o = 3 then none else v) L' μ') else (match cs[(x.toInt - lo).toNat]? with
    | some s => SW s L μ1 (fun o v L' μ' => Q (if o = 3 then 0 else o) (if o = 3 then none else v) L' μ')
    | none => SW d L μ1 (fun o v L' μ' => Q (if o = 3 then 0 else o) (if o = 3 then none else v) L' μ'))
  | _ => False) := by
  have key : ∀ (s : Sp) μ1, (match swO (s L μ1) with
    | some (o, v, L', μ') => Q o v L' μ'
    | none => False) = SW s L μ1 (fun o v L' μ' => Q (if o = 3 then 0 else o) (if o = 3 then none else v) L' μ') := by
    intro s μ1
    rw [SW_m]
    cases h : s L μ1 with
    | none => rfl
    | some r =>
      obtain ⟨o, v, L', μ'⟩ := r
      by_cases ho : o = 3 <;> simp [swO, ho]
  rw [SW_m]
  unfold sw
  rcases h : e L μ with _ | ⟨v, μ1⟩
  · rfl
  · cases v with
    | int x =>
      by_cases h2 : x.toInt < lo
      · simp only [if_pos h2]
        exact key d μ1
      · simp only [if_neg h2]
        rcases h3 : cs[(x.toInt - lo).toNat]? with _ | s
        · exact key d μ1
        · exact key s μ1
    | _ => rfl
def swI (y : Int32) (xs : List Int32) (z : Int32) : Int32 := if y.toInt < 0 then z else (xs[y.toInt.toNat]?).getD z
theorem SW_swI {e : Xp} {cs : List Sp} {d : Sp} {L : List Value} {μ : Mm} {Q : Nat → Option Value → List Value → Mm → Prop} {y : Int32} (xs : List Int32) (z : Int32) (he : e L μ = some (.int y, μ)) (hl : cs.length = xs.length)
    (h : ∀ (i : Nat) (s : Sp) (x : Int32), cs[i]? = some s → xs[i]? = some x → SW s L μ (fun o v L' μ' => o = 1 ∧ v = some (.int x) ∧ L' = L ∧ μ' = μ)) (hd : SW d L μ (fun o v L' μ' => o = 1 ∧ v = some (.int z) ∧ L' = L ∧ μ' = μ))
    (hq : Q 1 (some (.int (swI y xs z))) L μ) : SW (sw e 0 cs d) L μ Q := by
  rw [SW_sw, he]
  simp only
  have fin : ∀ (s : Sp) (x : Int32), x = swI y xs z → SW s L μ (fun o v L' μ' => o = 1 ∧ v = some (.int x) ∧ L' = L ∧ μ' = μ) → SW s L μ (fun o v L' μ' => Q (if o = 3 then 0 else o) (if o = 3 then none else v) L' μ') := by
    intro s x hx hs
    refine SW_mono hs ?_
    rintro o v L' μ' ⟨rfl, rfl, rfl, rfl⟩
    rw [hx]
    exact hq
  by_cases h2 : y.toInt < 0
  · rw [if_pos h2]
    exact fin d z (by unfold swI; rw [if_pos h2]) hd
  · rw [if_neg h2]
    have e0 : (y.toInt - 0).toNat = y.toInt.toNat := by simp
    rw [e0]
    rcases h3 : cs[y.toInt.toNat]? with _ | s
    · have h4 : xs[y.toInt.toNat]? = none := by
        rw [List.getElem?_eq_none_iff] at h3 ⊢
        omega
      exact fin d z (by unfold swI; rw [if_neg h2, h4]; rfl) hd
    · rcases h4 : xs[y.toInt.toNat]? with _ | x
      · rw [List.getElem?_eq_none_iff] at h4
        have := (List.getElem?_eq_some_iff.mp h3).1
        omega
      · exact fin s x (by unfold swI; rw [if_neg h2, h4]; rfl) (h _ s x h3 h4)
