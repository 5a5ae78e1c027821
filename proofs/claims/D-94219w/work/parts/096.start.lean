set_option maxRecDepth 100000
/-! THE START: what the Statement gives at the law's entry, as the memory's facts -/
def ztm (i : Nat) : Term := match i with
  | 0 => .string "LastSpeakers$Reader" 11
  | 1 => .string "LastSpeakers$Reader" 13
  | 2 => .string "LastSpeakers$Reader" 15
  | 3 => .string "LastSpeakers$Reader" 17
  | 4 => .string "LastSpeakers$Reader" 19
  | 5 => .string "LastSpeakers$Reader" 21
  | _ => .string "LastSpeakers$Reader" 23
def ztn (i : Nat) : Term := match i with
  | 0 => .string "LastSpeakersModel" 179
  | 1 => .string "LastSpeakersModel" 185
  | 2 => .string "LastSpeakersModel" 187
  | 3 => .string "LastSpeakersModel" 189
  | 4 => .string "LastSpeakersModel" 190
  | 5 => .string "LastSpeakersModel" 191
  | _ => .string "LastSpeakersModel" 192
theorem zn_ex : ∀ i, i < 7 → (Cond.exactly (ztm i) "java/lang/String") ∈ flatC narrow_1 := by decide +kernel
theorem zn_ex2 : ∀ i, i < 7 → (Cond.exactly (ztn i) "java/lang/String") ∈ flatC narrow_1 := by decide +kernel
theorem zn_co : ∀ i, i < 7 → (Cond.eq (.field (ztm i) "java/lang/String" "coder" "B") (.int 0)) ∈ flatC narrow_1 := by decide +kernel
theorem zn_ar : ∀ i, i < 7 → (Cond.arrayOf (.field (ztm i) "java/lang/String" "value" "[B") .byte) ∈ flatC narrow_1 := by decide +kernel
theorem zn_le : ∀ i, i < 7 → (Cond.eq (.length (.field (ztm i) "java/lang/String" "value" "[B")) (.int (Int32.ofNat (zlen.getD i 0)))) ∈ flatC narrow_1 := by decide +kernel
theorem zn_el : ∀ i, i < 7 → ∀ j, j < zlen.getD i 0 → (Cond.eq (.elem (.field (ztm i) "java/lang/String" "value" "[B") (.int (Int32.ofNat j))) (.int ((zbyt.getD i []).getD j 0))) ∈ flatC narrow_1 := by decide +kernel
theorem zn_ne : ∀ i, i < 7 → ∀ j, j < 7 → i ≠ j → (Cond.not (Cond.eq (ztm i) (ztm j))) ∈ flatC narrow_1 ∨ (Cond.not (Cond.eq (ztm j) (ztm i))) ∈ flatC narrow_1 := by decide +kernel
theorem zn_eq : ∀ i, i < 7 → (Cond.eq (ztm i) (ztn i)) ∈ flatC narrow_1 := by decide +kernel
theorem zn_cs : (Cond.eq (.static "java/lang/String" "COMPACT_STRINGS" "Z") (.int 1)) ∈ flatC narrow_1 := by decide +kernel
theorem zn_sf : (Cond.isRef (.static "jdk/internal/util/Preconditions" "SIOOBE_FORMATTER" "Ljava/util/function/BiFunction;")) ∈ flatC narrow_1 := by decide +kernel
theorem ztab_ne : ∀ i, i < 7 → ∀ j, j < 7 → i ≠ j → zlen.getD i 0 ≠ zlen.getD j 0 ∨ ∃ k, k < 6 ∧ k < zlen.getD i 0 ∧ k < zlen.getD j 0 ∧ (zbyt.getD i []).getD k 0 ≠ (zbyt.getD j []).getD k 0 := by decide +kernel
theorem zV_inj {adK adV : Nat → Nat} {B : Nat → Prop} {U : State} {H : Heap} (h : vk_S 7 zlen zbyt adK adV B U H) : ∀ i j, i < 7 → j < 7 → adV i = adV j → i = j := by
  intro i j hi hj e
  refine Decidable.byContradiction fun hne => ?_
  obtain ⟨c1, a1, -, -, a4, a5, a6, -⟩ := (h.1 i hi).2.2.2
  obtain ⟨c2, b1, -, -, b4, b5, b6, -⟩ := (h.1 j hj).2.2.2
  rw [e] at a1
  obtain rfl := Option.some.inj (a1.symm.trans b1)
  rcases ztab_ne i hi j hj hne with h1 | ⟨k, -, k1, k2, k3⟩
  · have l1 := zlen_lt i hi
    have l2 := zlen_lt j hj
    have e2 : nI (zlen.getD i 0) = nI (zlen.getD j 0) := a5.symm.trans b5
    exact h1 ((nI_eq (by omega) (by omega)).mp e2)
  · have e3 := (a6 k k1).symm.trans (b6 k k2)
    exact k3 (Value.int.inj (Option.some.inj e3))
/-- what the start gives of the String constants -/
theorem z_strings {args : Array Value} {s : State} (hg : narrow_1.before args s = true) : ∃ adK adV : Nat → Nat, vk_S 7 zlen zbyt adK adV (fun q => s.heap.size ≤ q) s s.heap ∧ (∀ i, i < 7 → (ztm i).eval args s none [] s = some (.ref (adK i))) ∧ (∀ i, i < 7 → (ztn i).eval args s none [] s = some (.ref (adK i))) := by
  have hs := flat_of_before _ hg
  obtain ⟨adK, adV, h1, h2⟩ := vk_Sof (args := args) (s := s) (N := 7) (tm := ztm) (len := zlen) (byt := zbyt) (A := fun q => s.heap.size ≤ q) (fun i hi => by have := zlen_lt i hi; omega) (fun i hi => hs _ (zn_ex i hi)) (fun i hi => hs _ (zn_co i hi)) (fun i hi => hs _ (zn_ar i hi)) (fun i hi => hs _ (zn_le i hi)) (fun i hi j hj => hs _ (zn_el i hi j hj)) (fun i j hi hj hij => by
    rcases zn_ne i hi j hj hij with h | h
    · exact Or.inl (hs _ h)
    · exact Or.inr (hs _ h)) (fun a ha h => Nat.lt_irrefl _ (Nat.lt_of_lt_of_le ha h))
  refine ⟨adK, adV, h1, h2, fun i hi => ?_⟩
  obtain ⟨a, c, cA, kA, q1, -⟩ := Cond.exactly_spec (args := args) (first := s) (o := none) (s := s) (idx := []) (t := ztn i) (cls := "java/lang/String") (hs _ (zn_ex2 i hi))
  have he := hs _ (zn_eq i hi)
  have h2i := h2 i hi
  simp [Cond.before, Cond.holds, Cond.value, h2i, q1] at he
  rw [q1, he]
theorem z_sioobe {args : Array Value} {s : State} (hg : narrow_1.before args s = true) : ∃ v : Value, v.category = 1 ∧ (Term.static "jdk/internal/util/Preconditions" "SIOOBE_FORMATTER" "Ljava/util/function/BiFunction;").eval args s none [] s = some v := by
  have h := flat_of_before _ hg _ zn_sf
  cases hv : (Term.static "jdk/internal/util/Preconditions" "SIOOBE_FORMATTER" "Ljava/util/function/BiFunction;").eval args s none [] s with
  | none => simp [Cond.before, Cond.holds, Cond.value, hv] at h
  | some w =>
    refine ⟨w, ?_, rfl⟩
    cases w <;> first | rfl | (simp [Cond.before, Cond.holds, Cond.value, hv, Value.isRef] at h; done)
theorem z_prim {args : Array Value} {s : State} {ty : FieldType} (hno : ∀ C, ty ≠ .object C) (h : (Cond.arrayClass ty).before args s = true) : ∃ cA : ClassId, ArrOfT s cA ty ∧ va_RA s cA ty := by
  obtain ⟨c, k, comp, h1, h2, h3⟩ := Cond.arrayClass_spec h
  refine ⟨c, fun n z => ⟨fun k h => (by cases h), k, h2, comp, h3⟩, ?_⟩
  cases ty <;> first | exact h1 | exact absurd rfl (hno _)
theorem z_obj {args : Array Value} {s : State} {C : String} (h : (Cond.arrayOver (.object C)).before args s = true) : ∃ cA : ClassId, ArrOfT s cA (.object C) ∧ va_RA s cA (.object C) := by
  obtain ⟨comp, c, k, h1, h2, h3, h4, h5⟩ := Cond.arrayOver_spec h
  exact ⟨c, fun n z => ⟨fun k h => (by cases h), k, h3, comp, h4⟩, k, comp, h3, h4, h1, h5⟩
theorem z_arr {args : Array Value} {s : State} {t : FieldType} (h : (Cond.arrayOver (.array t)).before args s = true) : ∃ cA : ClassId, ArrOfT s cA (.array t) ∧ va_RA s cA (.array t) := by
  obtain ⟨comp, c, k, h1, h2, h3, h4, h5⟩ := arrayOverA_spec h
  exact ⟨c, fun n z => ⟨fun k h => (by cases h), k, h3, comp, h4⟩, h5⟩
theorem z_start {b L : Nat} {xs : Nat → Int32} {s : State} (hX : va_X b L xs s s.heap) (hbl : b < s.heap.size) (hts : ∀ w ∈ lw_tbl, w.before #[Value.ref b] s = true) (hg : narrow_1.before #[Value.ref b] s = true) : ∃ Z : Zt, zB Z = s.heap.size ∧ zX Z = b ∧ zL Z = L ∧ zx Z = xs ∧ KK Z s ∧ KS Z s s.heap ∧ (∀ i j, i < 7 → j < 7 → zV Z i = zV Z j → i = j) ∧ (∀ i j, i < 7 → j < 7 → zS Z i = zS Z j → i = j) := by
  obtain ⟨c0, i0, hK0⟩ := u_known (C := RX0) (T := TX0) (N := 27) (n := 27) hts (fun w h => lw_all_tbl (in_X0 w h)) (hts _ (lw_all_tbl q129))
  obtain ⟨c1, i1, hK1⟩ := u_known (C := RX1) (T := TX1) (N := 4) (n := 4) hts (fun w h => lw_all_tbl (in_X1 w h)) (hts _ (lw_all_tbl q565))
  obtain ⟨c2, i2, hK2⟩ := u_known (C := RX2) (T := TX2) (N := 4) (n := 4) hts (fun w h => lw_all_tbl (in_X2 w h)) (hts _ (lw_all_tbl q588))
  obtain ⟨c3, i3, hK3⟩ := u_known (C := RX3) (T := TX3) (N := 11) (n := 11) hts (fun w h => lw_all_tbl (in_X3 w h)) (hts _ (lw_all_tbl q610))
  obtain ⟨c4, i4, hK4⟩ := u_known (C := RX4) (T := TX4) (N := 63) (n := 63) hts (fun w h => lw_all_tbl (in_X4 w h)) (hts _ (lw_all_tbl q1052))
  obtain ⟨c5, i5, hK5⟩ := u_known (C := RX5) (T := TX5) (N := 9) (n := 9) hts (fun w h => lw_all_tbl (in_X5 w h)) (hts _ (lw_all_tbl q143))
  obtain ⟨c6, i6, hK6⟩ := u_known (C := RX6) (T := TX6) (N := 9) (n := 9) hts (fun w h => lw_all_tbl (in_X6 w h)) (hts _ (lw_all_tbl q160))
  obtain ⟨c7, i7, hK7⟩ := u_known (C := RX7) (T := TX7) (N := 4) (n := 4) hts (fun w h => lw_all_tbl (in_X7 w h)) (hts _ (lw_all_tbl q376))
  obtain ⟨c8, i8, hK8⟩ := u_known (C := RX8) (T := TX8) (N := 5) (n := 5) hts (fun w h => lw_all_tbl (in_X8 w h)) (hts _ (lw_all_tbl q461))
  obtain ⟨c9, i9, hK9⟩ := u_known (C := RX9) (T := TX9) (N := 2) (n := 2) hts (fun w h => lw_all_tbl (in_X9 w h)) (hts _ (lw_all_tbl q533))
  obtain ⟨c10, i10, hK10⟩ := u_known (C := RJ2) (T := TJ2) (N := 3) (n := 3) hts (fun w h => lw_all_tbl (in_J2 w h)) (hts _ (lw_all_tbl q166))
  obtain ⟨a0, hA0⟩ := z_prim (ty := .int) (fun C h => by cases h) (hts _ (lw_all_tbl q195))
  obtain ⟨a1, hA1⟩ := z_prim (ty := .long) (fun C h => by cases h) (hts _ (lw_all_tbl q194))
  obtain ⟨a2, hA2⟩ := z_prim (ty := .byte) (fun C h => by cases h) (hts _ (lw_all_tbl q193))
  obtain ⟨a3, hA3⟩ := z_prim (ty := .boolean) (fun C h => by cases h) (hts _ (lw_all_tbl q587))
  obtain ⟨a4, hA4⟩ := z_obj (C := "LastSpeakers$Entry") (hts _ q556)
  obtain ⟨a5, hA5⟩ := z_obj (C := "LastSpeakers$Hearing") (hts _ q561)
  obtain ⟨a6, hA6⟩ := z_obj (C := "LastSpeakers$Image") (hts _ q564)
  obtain ⟨a9, hA9⟩ := z_obj (C := "java/lang/String") (hts _ q151)
  obtain ⟨a10, hA10⟩ := z_obj (C := "java/lang/Object") (hts _ q178)
  obtain ⟨a7, hA7⟩ := z_arr (t := .int) (hts _ q559)
  obtain ⟨a8, hA8⟩ := z_arr (t := .array .int) (hts _ q558)
  obtain ⟨adK, adV, hS, hR1, hR2⟩ := z_strings hg
  obtain ⟨vF, hv1, hv2⟩ := z_sioobe hg
  have hno : ∀ a : Nat, a < s.heap.size → ¬ s.heap.size ≤ a := fun a ha h => Nat.lt_irrefl _ (Nat.lt_of_lt_of_le ha h)
  refine ⟨((fun c => match c with
    | 0 => c0
    | 1 => c1
    | 2 => c2
    | 3 => c3
    | 4 => c4
    | 5 => c5
    | 6 => c6
    | 7 => c7
    | 8 => c8
    | 9 => c9
    | _ => c10, fun c => match c with
    | 0 => i0
    | 1 => i1
    | 2 => i2
    | 3 => i3
    | 4 => i4
    | 5 => i5
    | 6 => i6
    | 7 => i7
    | 8 => i8
    | 9 => i9
    | _ => i10), (fun t => match t with
    | 0 => a0
    | 1 => a1
    | 2 => a2
    | 3 => a3
    | 4 => a4
    | 5 => a5
    | 6 => a6
    | 7 => a7
    | 8 => a8
    | 9 => a9
    | 10 => a10
    | 11 => a2
    | _ => a0), s.heap.size, adK, adV, b, L, xs), rfl, rfl, rfl, rfl, ⟨⟨?_, ?_⟩, ?_, ?_, ?_, ?_, ?_, ?_⟩, ⟨vF, hv1, hS, va_Zof (hts _ q293) (hts _ (lw_all_tbl q109)) (va_eqi (flat_of_before _ hg _ zn_cs)) hno, va_Zof (hts _ q309) (hts _ (lw_all_tbl q111)) hv2 hno, hbl, hX⟩, zV_inj hS, hS.2⟩
  · intro c q hq
    match c, hq with
    | 0, hq => cases hq; exact hK0
    | 1, hq => cases hq; exact hK1
    | 2, hq => cases hq; exact hK2
    | 3, hq => cases hq; exact hK3
    | 4, hq => cases hq; exact hK4
    | 5, hq => cases hq; exact hK5
    | 6, hq => cases hq; exact hK6
    | 7, hq => cases hq; exact hK7
    | 8, hq => cases hq; exact hK8
    | 9, hq => cases hq; exact hK9
    | 10, hq => cases hq; exact hK10
    | c + 11, hq => simp [zcl] at hq
  · intro k q hq
    match k, hq with
    | 0, hq => cases hq; exact hA0
    | 1, hq => cases hq; exact hA1
    | 2, hq => cases hq; exact hA2
    | 3, hq => cases hq; exact hA3
    | 4, hq => cases hq; exact hA4
    | 5, hq => cases hq; exact hA5
    | 6, hq => cases hq; exact hA6
    | 7, hq => cases hq; exact hA7
    | 8, hq => cases hq; exact hA8
    | 9, hq => cases hq; exact hA9
    | 10, hq => cases hq; exact hA10
    | 11, hq => cases hq; exact hA2
    | 12, hq => cases hq; exact hA0
    | k + 13, hq => simp at hq
  · intro q hq
    simp only [zNF, List.mem_cons, List.not_mem_nil, or_false] at hq
    rcases hq with rfl | rfl | rfl | rfl | rfl | rfl | rfl | rfl | rfl | rfl | rfl | rfl | rfl | rfl | rfl | rfl | rfl | rfl | rfl | rfl | rfl | rfl | rfl | rfl | rfl | rfl | rfl | rfl | rfl | rfl | rfl | rfl | rfl | rfl | rfl | rfl | rfl | rfl | rfl | rfl | rfl | rfl | rfl | rfl | rfl
    · exact va_Nw.of rfl (hts _ q199)
    · exact va_Nw.of rfl (hts _ q202)
    · exact va_Nw.of rfl (hts _ q208)
    · exact va_Nw.of rfl (hts _ q235)
    · exact va_Nw.of rfl (hts _ q383)
    · exact va_Nw.of rfl (hts _ q386)
    · exact va_Nw.of rfl (hts _ q388)
    · exact va_Nw.of rfl (hts _ q389)
    · exact va_Nw.of rfl (hts _ q467)
    · exact va_Nw.of rfl (hts _ q470)
    · exact va_Nw.of rfl (hts _ q473)
    · exact va_Nw.of rfl (hts _ q475)
    · exact va_Nw.of rfl (hts _ q476)
    · exact va_Nw.of rfl (hts _ q571)
    · exact va_Nw.of rfl (hts _ q573)
    · exact va_Nw.of rfl (hts _ q575)
    · exact va_Nw.of rfl (hts _ q577)
    · exact va_Nw.of rfl (hts _ q594)
    · exact va_Nw.of rfl (hts _ q596)
    · exact va_Nw.of rfl (hts _ q598)
    · exact va_Nw.of rfl (hts _ q600)
    · exact va_Nw.of rfl (hts _ q620)
    · exact va_Nw.of rfl (hts _ q622)
    · exact va_Nw.of rfl (hts _ q624)
    · exact va_Nw.of rfl (hts _ q626)
    · exact va_Nw.of rfl (hts _ q627)
    · exact va_Nw.of rfl (hts _ q628)
    · exact va_Nw.of rfl (hts _ q629)
    · exact va_Nw.of rfl (hts _ q630)
    · exact va_Nw.of rfl (hts _ q631)
    · exact va_Nw.of rfl (hts _ q632)
    · exact va_Nw.of rfl (hts _ q633)
    · exact va_Nw.of rfl (hts _ q200)
    · exact va_Nw.of rfl (hts _ q203)
    · exact va_Nw.of rfl (hts _ q205)
    · exact va_Nw.of rfl (hts _ q207)
    · exact va_Nw.of rfl (hts _ q210)
    · exact va_Nw.of rfl (hts _ q211)
    · exact va_Nw.of rfl (hts _ q387)
    · exact va_Nw.of rfl (hts _ q390)
    · exact va_Nw.of rfl (hts _ q469)
    · exact va_Nw.of rfl (hts _ q472)
    · exact va_Nw.of rfl (hts _ q382)
    · exact va_Nw.of rfl (hts _ q385)
    · exact va_Nw.of rfl (hts _ q539)
  · intro q hq
    simp only [zNM, List.mem_cons, List.not_mem_nil, or_false] at hq
    rcases hq with rfl | rfl | rfl | rfl | rfl | rfl
    · exact va_Nw.of rfl (hts _ q566)
    · exact va_Nw.of rfl (hts _ q589)
    · exact va_Nw.of rfl (hts _ q617)
    · exact va_Nw.of rfl (hts _ q618)
    · exact va_Nw.of rfl (hts _ q161)
    · exact va_Nw.of rfl (hts _ q370)
  · intro C hq
    simp only [zCA, List.mem_cons, List.not_mem_nil, or_false] at hq
    rcases hq with rfl | rfl | rfl | rfl | rfl | rfl | rfl | rfl | rfl | rfl | rfl | rfl | rfl | rfl | rfl | rfl | rfl | rfl | rfl | rfl | rfl | rfl | rfl
    · exact va_Nw.of rfl (hts _ q1600)
    · exact va_Nw.of rfl (hts _ q1592)
    · exact va_Nw.of rfl (hts _ q1596)
    · exact va_Nw.of rfl (hts _ q1593)
    · exact va_Nw.of rfl (hts _ q1594)
    · exact va_Nw.of rfl (hts _ q1595)
    · exact va_Nw.of rfl (hts _ q1597)
    · exact va_Nw.of rfl (hts _ q1598)
    · exact va_Nw.of rfl (hts _ q1599)
    · exact va_Nw.of rfl (hts _ q1601)
    · exact va_Nw.of rfl (hts _ q1602)
    · exact va_Nw.of rfl (hts _ q1603)
    · exact va_Nw.of rfl (hts _ q1609)
    · exact va_Nw.of rfl (hts _ q1611)
    · exact va_Nw.of rfl (hts _ q1610)
    · exact va_Nw.of rfl (hts _ q1612)
    · exact va_Nw.of rfl (hts _ q1615)
    · exact va_Nw.of rfl (hts _ q1616)
    · exact va_Nw.of rfl (hts _ q1608)
    · exact va_Nw.of rfl (hts _ q1607)
    · exact va_Nw.of rfl (hts _ q1617)
    · exact va_Nw.of rfl (hts _ q1614)
    · exact va_Nw.of rfl (hts _ q1613)
  · intro C hq
    simp only [zAO, List.mem_cons, List.not_mem_nil, or_false] at hq
    rcases hq with rfl | rfl | rfl | rfl | rfl
    · exact va_AO.of (hts _ q151)
    · exact va_AO.of (hts _ q178)
    · exact va_AO.of (hts _ q556)
    · exact va_AO.of (hts _ q561)
    · exact va_AO.of (hts _ q564)
  · intro q hq
    simp only [zSR, List.mem_cons, List.not_mem_nil, or_false] at hq
    rcases hq with rfl | rfl | rfl | rfl | rfl | rfl | rfl | rfl | rfl | rfl | rfl | rfl | rfl | rfl
    · exact vk_R.of (A := #[Value.ref b]) (hts _ q1280) (hR2 0 (by decide))
    · exact vk_R.of (A := #[Value.ref b]) (hts _ q1298) (hR2 1 (by decide))
    · exact vk_R.of (A := #[Value.ref b]) (hts _ q1299) (hR2 2 (by decide))
    · exact vk_R.of (A := #[Value.ref b]) (hts _ q1300) (hR2 3 (by decide))
    · exact vk_R.of (A := #[Value.ref b]) (hts _ q1301) (hR2 4 (by decide))
    · exact vk_R.of (A := #[Value.ref b]) (hts _ q1302) (hR2 5 (by decide))
    · exact vk_R.of (A := #[Value.ref b]) (hts _ q1303) (hR2 6 (by decide))
    · exact vk_R.of (A := #[Value.ref b]) (hts _ q152) (hR1 0 (by decide))
    · exact vk_R.of (A := #[Value.ref b]) (hts _ q153) (hR1 1 (by decide))
    · exact vk_R.of (A := #[Value.ref b]) (hts _ q154) (hR1 2 (by decide))
    · exact vk_R.of (A := #[Value.ref b]) (hts _ q155) (hR1 3 (by decide))
    · exact vk_R.of (A := #[Value.ref b]) (hts _ q156) (hR1 4 (by decide))
    · exact vk_R.of (A := #[Value.ref b]) (hts _ q157) (hR1 5 (by decide))
    · exact vk_R.of (A := #[Value.ref b]) (hts _ q158) (hR1 6 (by decide))
  · intro t ht
    simp only [zAA, List.mem_cons, List.not_mem_nil, or_false] at ht
    rcases ht with rfl | rfl
    · exact hts _ q559
    · exact hts _ q558
