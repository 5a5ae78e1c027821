set_option maxRecDepth 100000
/-! LAYER 0: new cells, calls -/
theorem i32_nn {n : Int32} (h : 0 ≤ n) : ¬ n < 0 := Int32.not_lt.mpr h
theorem i32_cl {n : Int32} (h0 : 0 ≤ n) (h : n ≤ 1000000) : n.toNatClampNeg ≤ 1000000 := by
  have h1 := Int32.le_iff_toInt_le.mp h
  have h2 := Int32.le_iff_toInt_le.mp h0
  have e1 : (1000000 : Int32).toInt = 1000000 := by decide
  have e2 : (0 : Int32).toInt = 0 := by decide
  simp only [Int32.toNatClampNeg]
  omega
theorem nar_0 {own : String} : NARow 0 2 (.newarray .int) own := by
  intro k nm cc ret fr lo K pc L st n μ hd hn hn2 kk
  obtain ⟨p, l, e, R, s, m, args, below, meth, cd, Q, Z, nx0, sn0, NX, SN⟩ := k
  obtain ⟨hx, hb, hown, hts, hKK, hKS, hlk, hnm, hrt, hR1, hR2, hR3, hR4⟩ := K
  have hc := i32_cl hn hn2
  have hz : nx (newA μ 0 n.toNatClampNeg) = nx μ + 1 := rfl
  have hz2 : sn (newA μ 0 n.toNatClampNeg) = sn μ + n.toNatClampNeg := rfl
  have hb1 := kk.1
  rw [hz, hz2] at hb1
  have hby : n.toNatClampNeg * componentBytes (newarray.typeOf .int) ≤ 536870912 := Nat.le_trans (Nat.mul_le_mul_left _ (show componentBytes (newarray.typeOf .int) ≤ 8 by decide)) (by omega)
  refine ⟨⟨by omega, by omega⟩, fun H locs ls hH hF h0 h1 hl => ?_⟩
  refine va_newaK (atype := .int) hx hb (hts _ q195) (g := F0 m pc ls (.int n :: st)) rfl hd rfl (i32_nn hn) rfl hby (by rw [hR1]; omega) (by rw [hR2]; omega) hF.1 fun H1 cA e1 e2 e3 e4 e5 => ?_
  have hcA : zC Z 0 = cA := by
    have h := (zK hKK 0 rfl).2
    exact Option.some.inj (h.symm.trans e5)
  subst hcA
  refine W.cs (by rw [hz]; omega) (by rw [hz2]; omega) (kk.2 H1 locs ls (hH.nA hF.1 (by decide) e1 e3) (hF.push e2 e3 hH.2.2.1) (by rw [hz]; omega) (by rw [hz2]; omega) hl)
theorem nar_1 {own : String} : NARow 1 2 (.newarray .long) own := by
  intro k nm cc ret fr lo K pc L st n μ hd hn hn2 kk
  obtain ⟨p, l, e, R, s, m, args, below, meth, cd, Q, Z, nx0, sn0, NX, SN⟩ := k
  obtain ⟨hx, hb, hown, hts, hKK, hKS, hlk, hnm, hrt, hR1, hR2, hR3, hR4⟩ := K
  have hc := i32_cl hn hn2
  have hz : nx (newA μ 1 n.toNatClampNeg) = nx μ + 1 := rfl
  have hz2 : sn (newA μ 1 n.toNatClampNeg) = sn μ + n.toNatClampNeg := rfl
  have hb1 := kk.1
  rw [hz, hz2] at hb1
  have hby : n.toNatClampNeg * componentBytes (newarray.typeOf .long) ≤ 536870912 := Nat.le_trans (Nat.mul_le_mul_left _ (show componentBytes (newarray.typeOf .long) ≤ 8 by decide)) (by omega)
  refine ⟨⟨by omega, by omega⟩, fun H locs ls hH hF h0 h1 hl => ?_⟩
  refine va_newaK (atype := .long) hx hb (hts _ q194) (g := F0 m pc ls (.int n :: st)) rfl hd rfl (i32_nn hn) rfl hby (by rw [hR1]; omega) (by rw [hR2]; omega) hF.1 fun H1 cA e1 e2 e3 e4 e5 => ?_
  have hcA : zC Z 1 = cA := by
    have h := (zK hKK 1 rfl).2
    exact Option.some.inj (h.symm.trans e5)
  subst hcA
  refine W.cs (by rw [hz]; omega) (by rw [hz2]; omega) (kk.2 H1 locs ls (hH.nA hF.1 (by decide) e1 e3) (hF.push e2 e3 hH.2.2.1) (by rw [hz]; omega) (by rw [hz2]; omega) hl)
theorem nar_2 {own : String} : NARow 2 2 (.newarray .byte) own := by
  intro k nm cc ret fr lo K pc L st n μ hd hn hn2 kk
  obtain ⟨p, l, e, R, s, m, args, below, meth, cd, Q, Z, nx0, sn0, NX, SN⟩ := k
  obtain ⟨hx, hb, hown, hts, hKK, hKS, hlk, hnm, hrt, hR1, hR2, hR3, hR4⟩ := K
  have hc := i32_cl hn hn2
  have hz : nx (newA μ 2 n.toNatClampNeg) = nx μ + 1 := rfl
  have hz2 : sn (newA μ 2 n.toNatClampNeg) = sn μ + n.toNatClampNeg := rfl
  have hb1 := kk.1
  rw [hz, hz2] at hb1
  have hby : n.toNatClampNeg * componentBytes (newarray.typeOf .byte) ≤ 536870912 := Nat.le_trans (Nat.mul_le_mul_left _ (show componentBytes (newarray.typeOf .byte) ≤ 8 by decide)) (by omega)
  refine ⟨⟨by omega, by omega⟩, fun H locs ls hH hF h0 h1 hl => ?_⟩
  refine va_newaK (atype := .byte) hx hb (hts _ q193) (g := F0 m pc ls (.int n :: st)) rfl hd rfl (i32_nn hn) rfl hby (by rw [hR1]; omega) (by rw [hR2]; omega) hF.1 fun H1 cA e1 e2 e3 e4 e5 => ?_
  have hcA : zC Z 2 = cA := by
    have h := (zK hKK 2 rfl).2
    exact Option.some.inj (h.symm.trans e5)
  subst hcA
  refine W.cs (by rw [hz]; omega) (by rw [hz2]; omega) (kk.2 H1 locs ls (hH.nA hF.1 (by decide) e1 e3) (hF.push e2 e3 hH.2.2.1) (by rw [hz]; omega) (by rw [hz2]; omega) hl)
theorem nar_3 {own : String} : NARow 3 2 (.newarray .boolean) own := by
  intro k nm cc ret fr lo K pc L st n μ hd hn hn2 kk
  obtain ⟨p, l, e, R, s, m, args, below, meth, cd, Q, Z, nx0, sn0, NX, SN⟩ := k
  obtain ⟨hx, hb, hown, hts, hKK, hKS, hlk, hnm, hrt, hR1, hR2, hR3, hR4⟩ := K
  have hc := i32_cl hn hn2
  have hz : nx (newA μ 3 n.toNatClampNeg) = nx μ + 1 := rfl
  have hz2 : sn (newA μ 3 n.toNatClampNeg) = sn μ + n.toNatClampNeg := rfl
  have hb1 := kk.1
  rw [hz, hz2] at hb1
  have hby : n.toNatClampNeg * componentBytes (newarray.typeOf .boolean) ≤ 536870912 := Nat.le_trans (Nat.mul_le_mul_left _ (show componentBytes (newarray.typeOf .boolean) ≤ 8 by decide)) (by omega)
  refine ⟨⟨by omega, by omega⟩, fun H locs ls hH hF h0 h1 hl => ?_⟩
  refine va_newaK (atype := .boolean) hx hb (hts _ q587) (g := F0 m pc ls (.int n :: st)) rfl hd rfl (i32_nn hn) rfl hby (by rw [hR1]; omega) (by rw [hR2]; omega) hF.1 fun H1 cA e1 e2 e3 e4 e5 => ?_
  have hcA : zC Z 3 = cA := by
    have h := (zK hKK 3 rfl).2
    exact Option.some.inj (h.symm.trans e5)
  subst hcA
  refine W.cs (by rw [hz]; omega) (by rw [hz2]; omega) (kk.2 H1 locs ls (hH.nA hF.1 (by decide) e1 e3) (hF.push e2 e3 hH.2.2.1) (by rw [hz]; omega) (by rw [hz2]; omega) hl)
theorem mkAN {own C : String} {t idx : Nat} (ht : t < 12) (hty : ∀ Z : Zt, (zty Z)[t]? = some (zC Z t, .object C)) (hdv : zdv t = .null) (hq : Cond.classLink own idx C ∈ lw_all) (hao : C ∈ zAO) : NARow t 3 (.anewarray idx) own := by
  intro k nm cc ret fr lo K pc L st n μ hd hn hn2 kk
  obtain ⟨p, l, e, R, s, m, args, below, meth, cd, Q, Z, nx0, sn0, NX, SN⟩ := k
  obtain ⟨hx, hb, hown, hts, hKK, hKS, hlk, hnm, hrt, hR1, hR2, hR3, hR4⟩ := K
  have hc := i32_cl hn hn2
  have hz : nx (newA μ t n.toNatClampNeg) = nx μ + 1 := rfl
  have hz2 : sn (newA μ t n.toNatClampNeg) = sn μ + n.toNatClampNeg := rfl
  have hb1 := kk.1
  rw [hz, hz2] at hb1
  refine ⟨⟨by omega, by omega⟩, fun H locs ls hH hF h0 h1 hl => ?_⟩
  refine W.anew hx hb hown (hts _ hq) (va_AO.use (hKK.2.2.2.2.1 _ hao)) (g := F0 m pc ls (.int n :: st)) rfl hd rfl (i32_nn hn) (by omega) (by rw [hR1]; omega) (by rw [hR2]; omega) fun cA kA comp f1 f2 f3 f4 => ?_
  have hcA : zC Z t = cA := by
    obtain ⟨kA', comp', k1, k2, k3, k4⟩ := (zK hKK t (hty Z)).2
    exact Option.some.inj (k4.symm.trans f1)
  subst hcA
  generalize hH1 : H.push ({ cls := zC Z t, slots := Array.replicate n.toNatClampNeg .null, vm := .none } : Cell) = H1
  have z1 : H1.size = nx μ + 1 := by rw [← hH1, Array.size_push, hF.1]
  have e1 : H1[nx μ]? = some (arrV (zC Z t) n.toNatClampNeg (fun _ => zdv t)) := by rw [← hH1, ← hF.1, Array.getElem?_push_size, ← arrV_new, hdv]
  have e3 : ∀ q : Nat, q < nx μ → H1[q]? = H[q]? := fun q hq => by rw [← hH1, Array.getElem?_push, if_neg (by rw [hF.1]; omega)]
  have k9 := kk.2 H1 locs ls (hH.nA hF.1 ht e1 e3) (hF.push z1 e3 hH.2.2.1) (by rw [hz]; omega) (by rw [hz2]; omega) hl
  rw [hF.1]
  exact W.cs (by rw [hz]; omega) (by rw [hz2]; omega) k9
def NewRow (own : String) (idx c ns : Nat) : Prop := ∀ {k : Kt} {nm : String} {cc : ByteArray} {ret : Option FieldType} {fr lo : Nat}, Ctx k own nm cc ret fr lo → ∀ {pc : Nat} {L st : List Value} {μ : Mm}, decode cc pc = .ok (.new idx, 3) → Go k (pc + 3) L (.ref (nx μ) :: st) (newO μ c ns) → Go k pc L st μ
theorem mkNew {own C : String} {T : u_T} {N idx c ns : Nat} (hc : c < 11) (hz : zcl[c]? = some (C, T, N)) (hin : ∀ w ∈ u_ws C T N, w ∈ lw_all) (hty : ∀ k, k < N → parseFieldDescriptor (T k).2.2.1 = some (zdt c k)) (h1 : Cond.classLink own idx C ∈ lw_all) (h2 : Cond.instantiable C ns ∈ lw_all) (h3 : Cond.initialized C ∈ lw_all) : NewRow own idx c ns := by
  intro k nm cc ret fr lo K pc L st μ hd kk
  obtain ⟨p, l, e, R, s, m, args, below, meth, cd, Q, Z, nx0, sn0, NX, SN⟩ := k
  obtain ⟨hx, hb, hown, hts, hKK, hKS, hlk, hnm, hrt, hR1, hR2, hR3, hR4⟩ := K
  have hz1 : nx (newO μ c ns) = nx μ + 1 := rfl
  have hz2 : sn (newO μ c ns) = sn μ + ns := rfl
  have hb1 := kk.1
  rw [hz1, hz2] at hb1
  refine ⟨⟨by omega, by omega⟩, fun H locs ls hH hF h0 h1' hl => ?_⟩
  have hKn := hKK.1.1 c _ hz
  refine W.newcK hx hb hown (hts _ h1) (hts _ h2) (hts _ h3) (g := F0 m pc ls st) rfl hd (by rw [hR1]; omega) (by rw [hR2]; omega) hKn.2.1 hF.1 fun H1 kC hkC e1 z1 o1 => ?_
  exact W.cs (by rw [hz1]; omega) (by rw [hz2]; omega) (kk.2 H1 locs ls (hH.nO hF.1 hc hz (u_born (zdt c) (fun w h => hts w h) hin hKn hkC e1 hty) o1) (hF.push z1 o1 hH.2.2.1) (by rw [hz1]; omega) (by rw [hz2]; omega) hl)
/-! calls -/
abbrev Fn : Type := List Value → Mm → Option (Option Value × Mm)
theorem KK.same {Z : Zt} {u U : State} (hv : U.vm = u.vm) (h : KK Z u) : KK Z U := by
  obtain ⟨h1, h2, h3, h4, h5, h6, h7⟩ := h
  have al : u.vm.Alike U.vm := by rw [hv]; exact Vm.Alike.refl _
  exact ⟨va_K.moved al h1, fun q hq => (h2 q hq).same rfl hv.symm, fun q hq => (h3 q hq).same rfl hv.symm, fun q hq => (h4 q hq).same rfl hv.symm, fun q hq => (h5 q hq).moved al, fun q hq => vk_R.same hv (h6 q hq), fun t ht => zAO_moved al (h7 t ht)⟩
theorem zPc_blind {Z : Zt} {As : List Value} {μ : Mm} : FrameBlind (zPc Z As μ) := by
  rintro a U g mk ⟨h1, h2, h3, h4, h5⟩
  exact ⟨h1, h2, h3, KK.same (u := U) (U := U.calling g mk a) rfl h4, KS.moved (u := U) (U := U.calling g mk a) (Vm.Alike.refl U.vm) h5⟩
theorem zPc_at {Z : Zt} {As : List Value} {μ : Mm} {s U : State} {H : Heap} {locs : List Loc} (hKK : KK Z s) (hKS : KS Z s s.heap) (hH : HP Z μ H) (hF : FR (zB Z) s.heap H locs (nx μ)) (hU : U.heap = H) (hW : s.WarmedH U.vm) : zPc Z As μ As.toArray U :=
  ⟨rfl, by rw [hU]; exact hH, by rw [hU]; exact hF.1, hKK.warm hW, by rw [hU]; exact (KS.moved hW.alike hKS).kept hF.2.1⟩
/-- a method's contract: whatever its picture answers, the method answers, and leaves the picture's memory -/
def MetF (y : MethodName) (bytes : ByteArray) (maxL : Nat) (ret : Option FieldType) (fr lo : Nat) (F : Fn) : Prop := ∀ (l : Launch) (Z : Zt) (As : List Value) (μ μ' : Mm) (r : Option Value), F As μ = some (r, μ') → (nx μ ≤ nx μ' ∧ sn μ ≤ sn μ') ∧ Met l y (ws_ y bytes maxL ret) ({ frames := fr, cells := nx μ' - nx μ, slots := sn μ' - sn μ, locals := lo } : Room) (zPc Z As μ) (zQc Z r μ') (nx μ' - nx μ) (sn μ' - sn μ) (fun q => zB Z ≤ q)
def IRow (own nm : String) (ins : Instr) (F : Fn) (fr lo : Nat) : Prop := ∀ {k : Kt} {cc : ByteArray} {ret : Option FieldType}, Ctx k own nm cc ret fr lo → ∀ {pc : Nat} {L st As : List Value} {μ μ' : Mm} {r : Option Value}, decode cc pc = .ok (ins, 3) → F As μ = some (r, μ') → (st.map fun v => v.category).sum ≤ 8 → Go k (pc + 3) L (r.toList ++ st) μ' → Go k pc L (As.reverse ++ st) μ
theorem run_go {p : Program} {l : Launch} {e : Env} {R : Room} {s : State} {m : MethodId} {args : Array Value} {below : List Frame} {meth : Method} {c : Code} {Q : State → Prop} {Z : Zt} {nx0 sn0 NX SN : Nat} {H : Heap} {locs : List Loc} {ls : Array Slot} {pc : Nat} {L st st0 : List Value} {a9 : Array Value} {μ μ' : Mm} {r : Option Value}
    (hm : nx μ ≤ nx μ' ∧ sn μ ≤ sn μ') (kk : Go (p, l, e, R, s, m, args, below, meth, c, Q, Z, nx0, sn0, NX, SN) (pc + 3) L (r.toList ++ st) μ') (hF : FR (zB Z) s.heap H locs (nx μ)) (h0 : nx0 ≤ nx μ) (h1 : sn0 ≤ sn μ) (hl : LK ls c.maxLocals L)
    (hr : va_Run p l e R s m args below meth c H locs (nx μ - nx0) (sn μ - sn0) (nx μ' - nx μ) (sn μ' - sn μ) (F0 m pc ls st0) st (zQc Z r μ' a9) (fun q => zB Z ≤ q)) : W p l e R s m args below meth c H locs (nx μ - nx0) (sn μ - sn0) Q (F0 m pc ls st0) := by
  intro T hT X
  obtain ⟨v, st₀, t, T', Ls, e0, X', hL, e1, e2, ⟨q1, q2, q3, q4⟩, stp⟩ := hr T hT X
  obtain rfl := Outcome.returned.inj q1
  have g1 : nx μ - nx0 + (nx μ' - nx μ) = nx μ' - nx0 := by omega
  have g2 : sn μ - sn0 + (sn μ' - sn μ) = sn μ' - sn0 := by omega
  rw [g1, g2] at X'
  obtain ⟨t2, a1, b1⟩ := kk.2 t.heap (locs ++ Ls) ls q2 ⟨q3, fun q hq => by rw [q4 q hq, e0]; exact hF.2.1 q hq, fun x hx => by
    rcases List.mem_append.mp hx with h | h
    · exact hF.2.2.1 x h
    · exact hL x h, Nat.le_trans hF.2.2.2 hm.1⟩ (by omega) (by omega) hl T' e1 X'
  exact ⟨t2, stp t2 a1, b1⟩
theorem mkIV {own nm : String} {idx n frc loc fr lo maxL : Nat} {y : MethodName} {bytes : ByteArray} {F : Fn} {C : String} {T : u_T} {N c : Nat} {ret : Option FieldType} (hF : MetF y bytes maxL ret frc loc F) (hc : c < 11) (hz : zcl[c]? = some (C, T, N)) (hrecv : ∀ As μ r, F As μ = some r → ∃ b as, As = .ref b :: as ∧ as.length = n ∧ kd μ b = c + 1) (hw : GoodIn lw_all (wsV own idx C y (ws_ y bytes maxL ret))) (hd9 : y.cls = C ∧ y.cls ≠ "java/lang/invoke/MethodHandle" ∧ y.cls ≠ "java/lang/invoke/VarHandle" ∧ (parseMethodDescriptor y.desc).map (fun d => d.parameters.length) = some n) (hfr : frc + 1 ≤ fr) (hlo : 8 + (maxL + 11) + loc ≤ lo) : IRow own nm (.invokevirtual idx) F fr lo := by
  intro k cc ret9 K pc L st As μ μ' r hd hf hst kk
  obtain ⟨p, l, e, R, s, m, args, below, meth, cd, Q, Z, nx0, sn0, NX, SN⟩ := k
  obtain ⟨hx, hb, hown, hts, hKK, hKS, hlk, hnm, hrt, hR1, hR2, hR3, hR4⟩ := K
  obtain ⟨hm, hM⟩ := hF l Z As μ μ' r hf
  have hb9 := kk.1
  refine ⟨⟨by omega, by omega⟩, fun H locs ls hH hF' h0 h1 hl => ?_⟩
  have hfr9 : frc + 1 ≤ R.frames := by rw [hR3]; exact hfr
  have hlo9 : 8 + (maxL + 11) + loc ≤ R.locals := by rw [hR4]; exact hlo
  obtain ⟨b, as, rfl, hn, hk⟩ := hrecv As μ _ hf
  obtain ⟨-, r9, hr9, cell, g1, g2, g3, -⟩ := hH.1 b c hk hc
  have hrecv9 : ∃ cellB : Cell, H[b]? = some cellB ∧ cellB.vm.isStatics = false ∧ s.vm.findClass C = some cellB.cls := ⟨cell, g1, by rw [g3]; rfl, by rw [g2]; exact (hKK.1.1 c _ hz).2.1⟩
  refine run_go hm kk hF' h0 h1 hl (a9 := (Value.ref b :: as).toArray) ?_
  exact va_runV (As := as) (rest := st) ⟨hx, hb, rfl, hown, hts⟩ hM (cwV n hts hw rfl rfl rfl hd9 ⟨hfr9, hlo9⟩) ⟨zPc_blind, hrecv9, fun U hU hW => zPc_at hKK hKS hH hF' hU hW⟩ rfl hn hl.2.1 (by show (Value.ref b :: as).reverse ++ st = _; simp) (lv_room hst) hd ⟨by rw [hR1]; omega, by rw [hR2]; omega⟩
theorem mkIS {own nm : String} {idx n frc loc fr lo maxL : Nat} {y : MethodName} {bytes : ByteArray} {F : Fn} {ret : Option FieldType} (hF : MetF y bytes maxL ret frc loc F) (hlen : ∀ As μ r, F As μ = some r → As.length = n) (hw : GoodIn lw_all (va_wsS own idx y (ws_ y bytes maxL ret))) (hd9 : y.cls ≠ "java/lang/invoke/MethodHandle" ∧ y.cls ≠ "java/lang/invoke/VarHandle" ∧ (parseMethodDescriptor y.desc).map (fun d => d.parameters.length) = some n) (hfr : frc + 1 ≤ fr) (hlo : 8 + (maxL + 11) + loc ≤ lo) : IRow own nm (.invokestatic idx) F fr lo := by
  intro k cc ret9 K pc L st As μ μ' r hd hf hst kk
  obtain ⟨p, l, e, R, s, m, args, below, meth, cd, Q, Z, nx0, sn0, NX, SN⟩ := k
  obtain ⟨hx, hb, hown, hts, hKK, hKS, hlk, hnm, hrt, hR1, hR2, hR3, hR4⟩ := K
  obtain ⟨hm, hM⟩ := hF l Z As μ μ' r hf
  have hb9 := kk.1
  refine ⟨⟨by omega, by omega⟩, fun H locs ls hH hF' h0 h1 hl => ?_⟩
  have hfr9 : frc + 1 ≤ R.frames := by rw [hR3]; exact hfr
  have hlo9 : 8 + (maxL + 11) + loc ≤ R.locals := by rw [hR4]; exact hlo
  refine run_go hm kk hF' h0 h1 hl (a9 := (As).toArray) ?_
  exact va_runS (As := As) (rest := st) ⟨hx, hb, rfl, hown, hts⟩ hM (va_cwS n hts hw rfl rfl rfl hd9 ⟨hfr9, hlo9⟩) ⟨zPc_blind, fun U hU hW => zPc_at hKK hKS hH hF' hU hW⟩ rfl (hlen As μ _ hf) hl.2.1 rfl (lv_room hst) hd ⟨by rw [hR1]; omega, by rw [hR2]; omega⟩
theorem mkII {own nm : String} {idx n frc loc fr lo maxL : Nat} {y : MethodName} {bytes : ByteArray} {F : Fn}  (hF : MetF y bytes maxL none frc loc F) (hrecv : ∀ As μ r, F As μ = some r → ∃ b as, As = .ref b :: as ∧ as.length = n) (hy1 : y.name = "<init>") (hq1 : Cond.initialized y.cls ∈ lw_all) (hq2 : Cond.methodLink own idx y ∈ lw_all) (hq3 : Cond.instanceMethod y ∈ lw_all) (hw : GoodIn lw_all (ws_ y bytes maxL none)) (hd9 : y.cls ≠ "java/lang/invoke/MethodHandle" ∧ y.cls ≠ "java/lang/invoke/VarHandle" ∧ (parseMethodDescriptor y.desc).map (fun d => d.parameters.length) = some n) (hfr : frc + 1 ≤ fr) (hlo : 8 + (maxL + 11) + loc ≤ lo) : IRow own nm (.invokespecial idx) F fr lo := by
  intro k cc ret9 K pc L st As μ μ' r hd hf hst kk
  obtain ⟨p, l, e, R, s, m, args, below, meth, cd, Q, Z, nx0, sn0, NX, SN⟩ := k
  obtain ⟨hx, hb, hown, hts, hKK, hKS, hlk, hnm, hrt, hR1, hR2, hR3, hR4⟩ := K
  obtain ⟨hm, hM⟩ := hF l Z As μ μ' r hf
  have hb9 := kk.1
  refine ⟨⟨by omega, by omega⟩, fun H locs ls hH hF' h0 h1 hl => ?_⟩
  have hfr9 : frc + 1 ≤ R.frames := by rw [hR3]; exact hfr
  have hlo9 : 8 + (maxL + 11) + loc ≤ R.locals := by rw [hR4]; exact hlo
  obtain ⟨b, as, rfl, hn⟩ := hrecv As μ _ hf
  refine run_go hm kk hF' h0 h1 hl (a9 := (Value.ref b :: as).toArray) ?_
  exact va_runI (As := as) (rest := st) ⟨hx, hb, rfl, hown, hts⟩ hM (cwI n hts hw rfl rfl rfl (hts _ hq1) (hts _ hq2) (hts _ hq3) hy1 hd9 ⟨hfr9, hlo9⟩) ⟨zPc_blind, fun U hU hW => zPc_at hKK hKS hH hF' hU hW⟩ rfl hn hl.2.1 (by show (Value.ref b :: as).reverse ++ st = _; simp) (lv_room hst) hd ⟨by rw [hR1]; omega, by rw [hR2]; omega⟩
theorem mkISN {own nm : String} {idx n frc loc fr lo maxL : Nat} {y : MethodName} {bytes : ByteArray} {F : Fn} {host : String} {ret : Option FieldType} (hF : MetF y bytes maxL ret frc loc F) (hlen : ∀ As μ r, F As μ = some r → As.length = n) (hw : GoodIn lw_all (ws_ y bytes maxL ret)) (hq : (own, idx, y, host) ∈ zNM) (hq1 : Cond.initialized y.cls ∈ lw_all) (hq2 : Cond.static y ∈ lw_all) (hd9 : y.cls ≠ "java/lang/invoke/MethodHandle" ∧ y.cls ≠ "java/lang/invoke/VarHandle" ∧ (parseMethodDescriptor y.desc).map (fun d => d.parameters.length) = some n) (hfr : frc + 1 ≤ fr) (hlo : 8 + (maxL + 11) + loc ≤ lo) : IRow own nm (.invokestatic idx) F fr lo := by
  intro k cc ret9 K pc L st As μ μ' r hd hf hst kk
  obtain ⟨p, l, e, R, s, m, args, below, meth, cd, Q, Z, nx0, sn0, NX, SN⟩ := k
  obtain ⟨hx, hb, hown, hts, hKK, hKS, hlk, hnm, hrt, hR1, hR2, hR3, hR4⟩ := K
  obtain ⟨hm, hM⟩ := hF l Z As μ μ' r hf
  have hb9 := kk.1
  refine ⟨⟨by omega, by omega⟩, fun H locs ls hH hF' h0 h1 hl => ?_⟩
  have hfr9 : frc + 1 ≤ R.frames := by rw [hR3]; exact hfr
  have hlo9 : 8 + (maxL + 11) + loc ≤ R.locals := by rw [hR4]; exact hlo
  refine run_go hm kk hF' h0 h1 hl (a9 := (As).toArray) ?_
  exact va_runSN (As := As) (rest := st) ⟨hx, hb, rfl, hown, hts⟩ hM ⟨va_cnB n hts hw rfl rfl rfl (hKK.2.2.1 _ hq) (hts _ hq1) hd9 ⟨hfr9, hlo9⟩, hts _ hq2, trivial⟩ ⟨zPc_blind, fun U hU hW => zPc_at hKK hKS hH hF' hU hW⟩ rfl (hlen As μ _ hf) hl.2.1 rfl (lv_room hst) hd ⟨by rw [hR1]; omega, by rw [hR2]; omega⟩
theorem mkIIN {own nm : String} {idx n frc loc fr lo maxL : Nat} {y : MethodName} {bytes : ByteArray} {F : Fn} {host : String} (hF : MetF y bytes maxL none frc loc F) (hrecv : ∀ As μ r, F As μ = some r → ∃ b as, As = .ref b :: as ∧ as.length = n) (hy1 : y.name = "<init>") (hw : GoodIn lw_all (ws_ y bytes maxL none)) (hq : (own, idx, y, host) ∈ zNM) (hq1 : Cond.initialized y.cls ∈ lw_all) (hq3 : Cond.instanceMethod y ∈ lw_all) (hd9 : y.cls ≠ "java/lang/invoke/MethodHandle" ∧ y.cls ≠ "java/lang/invoke/VarHandle" ∧ (parseMethodDescriptor y.desc).map (fun d => d.parameters.length) = some n) (hfr : frc + 1 ≤ fr) (hlo : 8 + (maxL + 11) + loc ≤ lo) : IRow own nm (.invokespecial idx) F fr lo := by
  intro k cc ret9 K pc L st As μ μ' r hd hf hst kk
  obtain ⟨p, l, e, R, s, m, args, below, meth, cd, Q, Z, nx0, sn0, NX, SN⟩ := k
  obtain ⟨hx, hb, hown, hts, hKK, hKS, hlk, hnm, hrt, hR1, hR2, hR3, hR4⟩ := K
  obtain ⟨hm, hM⟩ := hF l Z As μ μ' r hf
  have hb9 := kk.1
  refine ⟨⟨by omega, by omega⟩, fun H locs ls hH hF' h0 h1 hl => ?_⟩
  have hfr9 : frc + 1 ≤ R.frames := by rw [hR3]; exact hfr
  have hlo9 : 8 + (maxL + 11) + loc ≤ R.locals := by rw [hR4]; exact hlo
  obtain ⟨b, as, rfl, hn⟩ := hrecv As μ _ hf
  refine run_go hm kk hF' h0 h1 hl (a9 := (Value.ref b :: as).toArray) ?_
  exact va_runIN (As := as) (rest := st) ⟨hx, hb, rfl, hown, hts⟩ hM ⟨va_cnB n hts hw rfl rfl rfl (hKK.2.2.1 _ hq) (hts _ hq1) hd9 ⟨hfr9, hlo9⟩, hy1, hts _ hq3⟩ ⟨zPc_blind, fun U hU hW => zPc_at hKK hKS hH hF' hU hW⟩ rfl hn hl.2.1 (by show (Value.ref b :: as).reverse ++ st = _; simp) (lv_room hst) hd ⟨by rw [hR1]; omega, by rw [hR2]; omega⟩
theorem go_objInit {k : Kt} {own nm : String} {cc : ByteArray} {ret : Option FieldType} {fr lo : Nat} {pc idx a : Nat} {L st : List Value} {μ : Mm} (K : Ctx k own nm cc ret fr lo) (hq : Cond.methodLink own idx objectInit ∈ lw_all) (hd : decode cc pc = .ok (.invokespecial idx, 3)) (hfr : 1 ≤ fr) (hlo : 12 ≤ lo) (hst : (st.map fun v => v.category).sum = 0) (kk : Go k (pc + 3) L st μ) : Go k pc L (.ref a :: st) μ := by
  obtain ⟨p, l, e, R, s, m, args, below, meth, cd, Q, Z, nx0, sn0, NX, SN⟩ := k
  obtain ⟨hx, hb, hown, hts, hKK, hKS, hlk, hnm, hrt, hR1, hR2, hR3, hR4⟩ := K
  obtain rfl : st = [] := by
    cases st with
    | nil => rfl
    | cons v t => cases v <;> (simp [Value.category] at hst; done)
  refine ⟨kk.1, fun H locs ls hH hF h0 h1 hl => ?_⟩
  refine W.objInit hx hb hown (hts _ hq) (hts _ q148) (hts _ q149) rfl (by exact hl.2.1.trans rfl) rfl hd (by rw [hR3]; exact hfr) (by rw [hR4]; exact hlo) ?_
  exact kk.2 H locs ls hH hF h0 h1 hl
def CastRow (own : String) (idx c : Nat) : Prop := ∀ {k : Kt} {nm : String} {cc : ByteArray} {ret : Option FieldType} {fr lo : Nat}, Ctx k own nm cc ret fr lo → ∀ {pc a : Nat} {L st : List Value} {μ : Mm}, decode cc pc = .ok (.checkcast idx, 3) → kd μ a = c + 1 → Go k (pc + 3) L (.ref a :: st) μ → Go k pc L (.ref a :: st) μ
theorem mkCast {own C : String} {T : u_T} {N idx c : Nat} (hc : c < 11) (hz : zcl[c]? = some (C, T, N)) (hq : Cond.classLink own idx C ∈ lw_all) : CastRow own idx c := by
  intro k nm cc ret fr lo K pc a L st μ hd hk kk
  obtain ⟨p, l, e, R, s, m, args, below, meth, cd, Q, Z, nx0, sn0, NX, SN⟩ := k
  obtain ⟨hx, hb, hown, hts, hKK, hKS, hlk, hnm, hrt, hR1, hR2, hR3, hR4⟩ := K
  refine ⟨kk.1, fun H locs ls hH hF h0 h1 hl => ?_⟩
  obtain ⟨-, r9, hr9, cell, g1, g2, g3, -⟩ := hH.1 a c hk hc
  have hcls := (hKK.1.1 c _ hz).2
  intro T hT X
  obtain ⟨vm', X', st9⟩ := X.checkcastYes hx hown (hts _ hq) (by rw [hT]; exact g1) (by rw [g3]; rfl) hcls.1 (by rw [g2]; exact va_asg _ _) (g := F0 m pc ls (.ref a :: st)) rfl rfl (by rw [hb]; exact hd)
  obtain ⟨t, a1, b1⟩ := kk.2 H locs ls hH hF h0 h1 hl (T.setVm vm') hT X'
  exact ⟨t, st9 t a1, b1⟩
def StRow (own : String) (idx n : Nat) : Prop := ∀ {k : Kt} {nm : String} {cc : ByteArray} {ret : Option FieldType} {fr lo : Nat}, Ctx k own nm cc ret fr lo → ∀ {pc : Nat} {L st : List Value} {μ : Mm}, decode cc pc = .ok (.ldc idx, 2) → Go k (pc + 2) L (.ref (sa μ n) :: st) μ → Go k pc L st μ
theorem mkSt {own tx : String} {idx n : Nat} (hq : (own, idx, tx, n) ∈ zSR) : StRow own idx n := by
  intro k nm cc ret fr lo K pc L st μ hd kk
  obtain ⟨p, l, e, R, s, m, args, below, meth, cd, Q, Z, nx0, sn0, NX, SN⟩ := k
  obtain ⟨hx, hb, hown, hts, hKK, hKS, hlk, hnm, hrt, hR1, hR2, hR3, hR4⟩ := K
  refine ⟨kk.1, fun H locs ls hH hF h0 h1 hl => ?_⟩
  have h9 := hKK.2.2.2.2.2.1 _ hq
  have e9 : sa μ n = zS Z n := by rw [hH.2.2.2.1]
  refine va_ldcS hx hb hown (q := sa μ n) (by rw [e9]; exact h9) hd (kk.2 H locs ls hH hF h0 h1 hl)
