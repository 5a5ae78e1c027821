set_option maxRecDepth 100000
/-! calls whose receiver is a String constant; arrays of arrays -/
theorem mkIVS {own nm : String} {idx n frc loc fr lo maxL : Nat} {y : MethodName} {bytes : ByteArray} {F : Fn} {C : String} {ret : Option FieldType} (hC : C = "java/lang/String") (hF : MetF y bytes maxL ret frc loc F) (hrecv : ∀ As μ r, F As μ = some r → ∃ n9 as, n9 < 7 ∧ As = .ref (sa μ n9) :: as ∧ as.length = n) (hw : GoodIn lw_all (wsV own idx C y (ws_ y bytes maxL ret))) (hd9 : y.cls = C ∧ y.cls ≠ "java/lang/invoke/MethodHandle" ∧ y.cls ≠ "java/lang/invoke/VarHandle" ∧ (parseMethodDescriptor y.desc).map (fun d => d.parameters.length) = some n) (hfr : frc + 1 ≤ fr) (hlo : 8 + (maxL + 11) + loc ≤ lo) : IRow own nm (.invokevirtual idx) F fr lo := by
  intro k cc ret9 K pc L st As μ μ' r hd hf hst kk
  obtain ⟨p, l, e, R, s, m, args, below, meth, cd, Q, Z, nx0, sn0, NX, SN⟩ := k
  obtain ⟨hx, hb, hown, hts, hKK, hKS, hlk, hnm, hrt, hR1, hR2, hR3, hR4⟩ := K
  obtain ⟨hm, hM⟩ := hF l Z As μ μ' r hf
  have hb9 := kk.1
  refine ⟨⟨by omega, by omega⟩, fun H locs ls hH hF' h0 h1 hl => ?_⟩
  have hfr9 : frc + 1 ≤ R.frames := by rw [hR3]; exact hfr
  have hlo9 : 8 + (maxL + 11) + loc ≤ R.locals := by rw [hR4]; exact hlo
  obtain ⟨n9, as, h7, rfl, hn⟩ := hrecv As μ _ hf
  have hKS9 := hKS
  obtain ⟨vF, -, hS, -⟩ := hKS9
  obtain ⟨cell, g1, g2, g3⟩ := vk_recv hS h7 (H := H) (locs := locs) ⟨by rw [hF'.1]; exact hF'.2.2.2, fun q _ hq => hF'.2.1 q (Nat.lt_of_not_le hq), hF'.2.2.1⟩
  rw [← hH.2.2.2.1] at g1
  have hrecv9 : ∃ cellB : Cell, H[sa μ n9]? = some cellB ∧ cellB.vm.isStatics = false ∧ s.vm.findClass C = some cellB.cls := ⟨cell, g1, g2, by rw [hC]; exact g3⟩
  refine run_go hm kk hF' h0 h1 hl (a9 := (Value.ref (sa μ n9) :: as).toArray) ?_
  exact va_runV (As := as) (rest := st) ⟨hx, hb, rfl, hown, hts⟩ hM (cwV n hts hw rfl rfl rfl hd9 ⟨hfr9, hlo9⟩) ⟨zPc_blind, hrecv9, fun U hU hW => zPc_at hKK hKS hH hF' hU hW⟩ rfl hn hl.2.1 (by show (Value.ref (sa μ n9) :: as).reverse ++ st = _; simp) (lv_room hst) hd ⟨by rw [hR1]; omega, by rw [hR2]; omega⟩
/-- n arrays of m ints, put into the places i, i + 1 .. of the array q of arrays -/
def mkR (q m : Nat) : Nat → Nat → Mm → Mm
  | 0, _, μ => μ
  | n + 1, i, μ => mkR q m n (i + 1) (setA (newA μ 0 m) 7 q i (.ref (nx μ)))
def mk2 (μ : Mm) (n m : Nat) : Mm := mkR (nx μ) m n 0 (newA μ 7 n)
def mkS (q n m : Nat) : Nat → Nat → Mm → Mm
  | 0, _, μ => μ
  | k + 1, i, μ => mkS q n m k (i + 1) (setA (mk2 μ n m) 8 q i (.ref (nx μ)))
def mk3 (μ : Mm) (k n m : Nat) : Mm := mkS (nx μ) n m k 0 (newA μ 8 k)
def mA2 (a b : Xp) : Xp := fun L μ => match a L μ with
  | some (.int x, μ1) => match b L μ1 with
    | some (.int y, μ2) => if 0 ≤ x ∧ x ≤ 1000 ∧ 0 ≤ y ∧ y ≤ 2000 then some (.ref (nx μ2), mk2 μ2 x.toNatClampNeg y.toNatClampNeg) else none
    | _ => none
  | _ => none
def mA3 (a b c : Xp) : Xp := fun L μ => match a L μ with
  | some (.int x, μ1) => match b L μ1 with
    | some (.int y, μ2) => match c L μ2 with
      | some (.int z, μ3) => if 0 ≤ x ∧ x ≤ 1000 ∧ 0 ≤ y ∧ y ≤ 1000 ∧ 0 ≤ z ∧ z ≤ 2000 then some (.ref (nx μ3), mk3 μ3 x.toNatClampNeg y.toNatClampNeg z.toNatClampNeg) else none
      | _ => none
    | _ => none
  | _ => none
def M2Row (own : String) (idx : Nat) : Prop := ∀ {k : Kt} {nm : String} {cc : ByteArray} {ret : Option FieldType} {fr lo : Nat}, Ctx k own nm cc ret fr lo → ∀ {pc : Nat} {L st : List Value} {x y : Int32} {μ : Mm}, decode cc pc = .ok (.multianewarray idx 2, 4) → 0 ≤ x → x ≤ 1000 → 0 ≤ y → y ≤ 2000 → Go k (pc + 4) L (.ref (nx μ) :: st) (mk2 μ x.toNatClampNeg y.toNatClampNeg) → Go k pc L (.int y :: .int x :: st) μ
def M3Row (own : String) (idx : Nat) : Prop := ∀ {k : Kt} {nm : String} {cc : ByteArray} {ret : Option FieldType} {fr lo : Nat}, Ctx k own nm cc ret fr lo → ∀ {pc : Nat} {L st : List Value} {x y z : Int32} {μ : Mm}, decode cc pc = .ok (.multianewarray idx 3, 4) → 0 ≤ x → x ≤ 1000 → 0 ≤ y → y ≤ 1000 → 0 ≤ z → z ≤ 2000 → Go k (pc + 4) L (.ref (nx μ) :: st) (mk3 μ x.toNatClampNeg y.toNatClampNeg z.toNatClampNeg) → Go k pc L (.int z :: .int y :: .int x :: st) μ
theorem x_mA2 {k : Kt} {own nm : String} {cc : ByteArray} {ret : Option FieldType} {fr lo : Nat} {w pc p1 p2 idx : Nat} {N : Nat × Nat} {a b : Xp} (K : Ctx k own nm cc ret fr lo) (hR : M2Row own idx) (ha : SE k w pc a (p1, p1)) (hb : SE k (w + 1) p1 b (p2, p2)) (hd : decode cc p2 = .ok (.multianewarray idx 2, 4)) (hN : zxx N (p2 + 4)) : SE k w pc (mA2 a b) N := by
  intro L st μ v9 μ' h hw kk
  unfold mA2 at h
  split at h
  case h_2 => cases h
  rename_i x μ1 h1
  split at h
  case h_2 => cases h
  rename_i y μ2 h2
  split at h
  case isFalse => cases h
  rename_i hk
  cases h
  have g3 := hR K hd hk.1 hk.2.1 hk.2.2.1 hk.2.2.2 (kk.at hN)
  have g2 := hb _ _ _ _ _ h2 (wt_1 rfl hw) ⟨g3, g3⟩
  exact ha _ _ _ _ _ h1 hw ⟨g2, g2⟩
theorem x_mA3 {k : Kt} {own nm : String} {cc : ByteArray} {ret : Option FieldType} {fr lo : Nat} {w pc p1 p2 p3 idx : Nat} {N : Nat × Nat} {a b c : Xp} (K : Ctx k own nm cc ret fr lo) (hR : M3Row own idx) (ha : SE k w pc a (p1, p1)) (hb : SE k (w + 1) p1 b (p2, p2)) (hc : SE k (w + 1 + 1) p2 c (p3, p3)) (hd : decode cc p3 = .ok (.multianewarray idx 3, 4)) (hN : zxx N (p3 + 4)) : SE k w pc (mA3 a b c) N := by
  intro L st μ v9 μ' h hw kk
  unfold mA3 at h
  split at h
  case h_2 => cases h
  rename_i x μ1 h1
  split at h
  case h_2 => cases h
  rename_i y μ2 h2
  split at h
  case h_2 => cases h
  rename_i z μ3 h3
  split at h
  case isFalse => cases h
  rename_i hk
  cases h
  have g3 := hR K hd hk.1 hk.2.1 hk.2.2.1 hk.2.2.2.1 hk.2.2.2.2.1 hk.2.2.2.2.2 (kk.at hN)
  have g2' := hc _ _ _ _ _ h3 (wt_1 rfl (wt_1 rfl hw)) ⟨g3, g3⟩
  have g2 := hb _ _ _ _ _ h2 (wt_1 rfl hw) ⟨g2', g2'⟩
  exact ha _ _ _ _ _ h1 hw ⟨g2, g2⟩

