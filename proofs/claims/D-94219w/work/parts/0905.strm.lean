set_option maxRecDepth 100000
/-! String.length and String.charAt, on the seven constants -/
theorem zva {Z : Zt} {s : State} {H : Heap} {locs : List Loc} {n : Nat} (hF : FR (zB Z) s.heap H locs n) : va_S (fun q => zB Z ≤ q) s.heap H locs :=
  ⟨by rw [hF.1]; exact hF.2.2.2, fun q _ hq => hF.2.1 q (Nat.lt_of_not_le hq), hF.2.2.1⟩
theorem go_sval {k : Kt} {own nm : String} {cc : ByteArray} {ret : Option FieldType} {fr lo : Nat} {pc idx n : Nat} {L st : List Value} {μ : Mm} (K : Ctx k own nm cc ret fr lo) (hn : n < 7) (hq : Cond.fieldLink own idx "java/lang/String" "value" "[B" ∈ lw_all) (hd : decode cc pc = .ok (.getfield idx, 3)) (kk : Go k (pc + 3) L (.ref (sv μ n) :: st) μ) : Go k pc L (.ref (sa μ n) :: st) μ := by
  obtain ⟨p, l, e, R, s, m, args, below, meth, cd, Q, Z, nx0, sn0, NX, SN⟩ := k
  obtain ⟨hx, hb, hown, hts, hKK, hKS, hlk, hnm, hrt, hR1, hR2, hR3, hR4⟩ := K
  refine ⟨kk.1, fun H locs ls hH hF h0 h1 hl => ?_⟩
  obtain ⟨vF, -, hS, -⟩ := hKS
  have e1 : sa μ n = zS Z n := by rw [hH.2.2.2.1]
  have e2 : sv μ n = zV Z n := by rw [hH.2.2.2.2.1]
  have k9 := kk.2 H locs ls hH hF h0 h1 hl
  rw [e2] at k9
  rw [e1]
  exact vk_getf hx hb (hS.1 n hn).2.2.1 (zva hF) hown (hts _ hq) (fun x h => h) hd k9
theorem go_scod {k : Kt} {own nm : String} {cc : ByteArray} {ret : Option FieldType} {fr lo : Nat} {pc idx n : Nat} {L st : List Value} {μ : Mm} (K : Ctx k own nm cc ret fr lo) (hn : n < 7) (hq : Cond.fieldLink own idx "java/lang/String" "coder" "B" ∈ lw_all) (hd : decode cc pc = .ok (.getfield idx, 3)) (kk : Go k (pc + 3) L (.int 0 :: st) μ) : Go k pc L (.ref (sa μ n) :: st) μ := by
  obtain ⟨p, l, e, R, s, m, args, below, meth, cd, Q, Z, nx0, sn0, NX, SN⟩ := k
  obtain ⟨hx, hb, hown, hts, hKK, hKS, hlk, hnm, hrt, hR1, hR2, hR3, hR4⟩ := K
  refine ⟨kk.1, fun H locs ls hH hF h0 h1 hl => ?_⟩
  obtain ⟨vF, -, hS, -⟩ := hKS
  have e1 : sa μ n = zS Z n := by rw [hH.2.2.2.1]
  have k9 := kk.2 H locs ls hH hF h0 h1 hl
  rw [e1]
  exact vk_getf hx hb (hS.1 n hn).2.1 (zva hF) hown (hts _ hq) (fun x h => h) hd k9
theorem go_slen {k : Kt} {own nm : String} {cc : ByteArray} {ret : Option FieldType} {fr lo : Nat} {pc n : Nat} {L st : List Value} {μ : Mm} (K : Ctx k own nm cc ret fr lo) (hn : n < 7) (hd : decode cc pc = .ok (.arraylength, 1)) (kk : Go k (pc + 1) L (.int (Int32.ofNat (zlen.getD n 0)) :: st) μ) : Go k pc L (.ref (sv μ n) :: st) μ := by
  obtain ⟨p, l, e, R, s, m, args, below, meth, cd, Q, Z, nx0, sn0, NX, SN⟩ := k
  obtain ⟨hx, hb, hown, hts, hKK, hKS, hlk, hnm, hrt, hR1, hR2, hR3, hR4⟩ := K
  refine ⟨kk.1, fun H locs ls hH hF h0 h1 hl => ?_⟩
  obtain ⟨vF, -, hS, -⟩ := hKS
  have e2 : sv μ n = zV Z n := by rw [hH.2.2.2.2.1]
  have k9 := kk.2 H locs ls hH hF h0 h1 hl
  rw [e2]
  exact va_tlen hx hb (hS.1 n hn).2.2.2 (zva hF) rfl hd k9
theorem go_sbyt {k : Kt} {own nm : String} {cc : ByteArray} {ret : Option FieldType} {fr lo : Nat} {pc n : Nat} {L st : List Value} {i : Int32} {μ : Mm} (K : Ctx k own nm cc ret fr lo) (hn : n < 7) (hi : zin i (zlen.getD n 0) = true) (hd : decode cc pc = .ok (.baload, 1)) (kk : Go k (pc + 1) L (.int ((zbyt.getD n []).getD i.toNatClampNeg 0) :: st) μ) : Go k pc L (.int i :: .ref (sv μ n) :: st) μ := by
  obtain ⟨p, l, e, R, s, m, args, below, meth, cd, Q, Z, nx0, sn0, NX, SN⟩ := k
  obtain ⟨hx, hb, hown, hts, hKK, hKS, hlk, hnm, hrt, hR1, hR2, hR3, hR4⟩ := K
  refine ⟨kk.1, fun H locs ls hH hF h0 h1 hl => ?_⟩
  obtain ⟨vF, -, hS, -⟩ := hKS
  have e2 : sv μ n = zV Z n := by rw [hH.2.2.2.2.1]
  have k9 := kk.2 H locs ls hH hF h0 h1 hl
  rw [e2]
  obtain ⟨cell, c1, c2, c3, c4, c5, c6, c7⟩ := ((hS.1 n hn).2.2.2).kept (zva hF).2.1
  have hz := zin_spec hi
  have hlt : i.toNatClampNeg < zlen.getD n 0 := Nat.not_le.mp fun q => hz (Or.inr q)
  refine W.bald (v := .int ((zbyt.getD n []).getD i.toNatClampNeg 0)) hx hb c1 c2 c3 ?_ (c6 _ hlt) rfl rfl hd k9
  rintro (q | q)
  · exact hz (Or.inl q)
  · omega
theorem go_gsC {k : Kt} {own nm : String} {cc : ByteArray} {ret : Option FieldType} {fr lo : Nat} {pc idx : Nat} {L st : List Value} {μ : Mm} (K : Ctx k own nm cc ret fr lo) (hq : Cond.fieldLink own idx "java/lang/String" "COMPACT_STRINGS" "Z" ∈ lw_all) (hd : decode cc pc = .ok (.getstatic idx, 3)) (kk : Go k (pc + 3) L (.int 1 :: st) μ) : Go k pc L st μ := by
  obtain ⟨p, l, e, R, s, m, args, below, meth, cd, Q, Z, nx0, sn0, NX, SN⟩ := k
  obtain ⟨hx, hb, hown, hts, hKK, hKS, hlk, hnm, hrt, hR1, hR2, hR3, hR4⟩ := K
  refine ⟨kk.1, fun H locs ls hH hF h0 h1 hl => ?_⟩
  obtain ⟨vF, -, -, hZ, -⟩ := hKS
  exact va_gets hx hb hZ (zva hF) hown (hts _ hq) (fun x h => h) hd (kk.2 H locs ls hH hF h0 h1 hl)
theorem go_gsF {k : Kt} {own nm : String} {cc : ByteArray} {ret : Option FieldType} {fr lo : Nat} {pc idx : Nat} {L st : List Value} {μ : Mm} (K : Ctx k own nm cc ret fr lo) (hq : Cond.fieldLink own idx "jdk/internal/util/Preconditions" "SIOOBE_FORMATTER" "Ljava/util/function/BiFunction;" ∈ lw_all) (hd : decode cc pc = .ok (.getstatic idx, 3)) (kk : ∀ vF : Value, vF.category = 1 → Go k (pc + 3) L (vF :: st) μ) : Go k pc L st μ := by
  obtain ⟨p, l, e, R, s, m, args, below, meth, cd, Q, Z, nx0, sn0, NX, SN⟩ := k
  obtain ⟨hx, hb, hown, hts, hKK, hKS, hlk, hnm, hrt, hR1, hR2, hR3, hR4⟩ := K
  refine ⟨(kk .null rfl).1, fun H locs ls hH hF h0 h1 hl => ?_⟩
  obtain ⟨vF, hv, -, -, hZ, -⟩ := hKS
  exact va_gets hx hb hZ (zva hF) hown (hts _ hq) (fun x h => h) hd ((kk vF hv).2 H locs ls hH hF h0 h1 hl)
theorem met_go {y : MethodName} {bytes : ByteArray} {nL fr lo : Nat} {ret : Option FieldType} {F : Fn} (hy : plainName y.cls = true) (seg : ∀ As μ r μ', F As μ = some (r, μ') → (zex As).length ≤ nL ∧ (nx μ ≤ nx μ' ∧ sn μ ≤ sn μ') ∧ ∀ k, Ctx k y.cls y.name bytes ret fr lo → Rt k r μ' → Go k 0 (zlo nL As) [] μ) : MetF y bytes nL ret fr lo F := by
  intro l Z As μ μ' r hF
  obtain ⟨h2, h4, h5⟩ := seg As μ r μ' hF
  refine ⟨h4, Met.ofW (cc := bytes) (maxL := nL) (ret := ret) hy rfl ?_⟩
  intro p e s m args below meth cd s1 B hml hv
  obtain ⟨rfl, hH, hsz, hKK, hKS⟩ := hv
  have hts0 := atoms_spec (ws := ws_ y bytes nL ret) B.pre
  have hts : ∀ w ∈ lw_all, w.before _ s = true := fun w h => hts0 w (List.mem_cons_of_mem _ h)
  have hown : s.vm.findClass y.cls = some m.cls := findClass_of_methodNamed B.named
  have key := h5 (p, l, e, (headSpec (ws_ y bytes nL ret) ({ frames := fr, cells := nx μ' - nx μ, slots := sn μ' - sn μ, locals := lo } : Room)).room, s, m, As.toArray, below, meth, cd, MQ below (zQc Z r μ') As.toArray s (nx μ' - nx μ) (sn μ' - sn μ) (fun q => zB Z ≤ q), Z, nx μ, sn μ, nx μ', sn μ')
    ⟨B.exec, B.bytes, hown, hts, hKK, hKS, B.notSynchronized, (name_of_methodNamed B.named B.method).1, B.returns, rfl, rfl, rfl, rfl⟩ ⟨Nat.le_refl _, Nat.le_refl _, rfl⟩
  rw [lg_entry_eq]
  have g := key.2 s.heap [] _ hH ⟨hsz, fun _ _ => rfl, (fun _ h => by cases h), by rw [hsz]; exact Nat.le_refl _⟩ (Nat.le_refl _) (Nat.le_refl _) (by rw [hml]; exact zlo_LK h2)
  rw [Nat.sub_self, Nat.sub_self] at g
  exact g
def strNo (f : Nat → Nat) (a : Nat) : Option Nat := (List.range 7).find? (fun n => f n == a)
theorem strNo_spec {f : Nat → Nat} {a n : Nat} (h : strNo f a = some n) : n < 7 ∧ f n = a := by
  have h1 := List.find?_some h
  have h2 := List.mem_of_find?_eq_some h
  exact ⟨List.mem_range.mp h2, by simpa using h1⟩
def strF (g : Nat → Value) : Fn := fun As μ => match As with
  | [.ref a] => match strNo (sa μ) a with
    | some n => some (some (g n), μ)
    | none => none
  | _ => none
theorem strF_spec {g : Nat → Value} {As : List Value} {μ μ' : Mm} {r : Option Value} (h : strF g As μ = some (r, μ')) : ∃ n, n < 7 ∧ As = [.ref (sa μ n)] ∧ r = some (g n) ∧ μ' = μ := by
  unfold strF at h
  split at h
  case h_2 => cases h
  rename_i a
  split at h
  case h_2 => cases h
  rename_i n hn
  cases h
  obtain ⟨h1, rfl⟩ := strNo_spec hn
  exact ⟨n, h1, rfl, rfl, rfl⟩
theorem strF_recv {g : Nat → Value} : ∀ As μ r, strF g As μ = some r → ∃ n as, n < 7 ∧ As = .ref (sa μ n) :: as ∧ as.length = 0 := by
  intro As μ r h
  obtain ⟨n, h1, h2, -⟩ := strF_spec (r := r.1) (μ' := r.2) h
  exact ⟨n, [], h1, h2, rfl⟩
def strG (f : Mm → Nat → Nat) (g : Nat → Int32 → Value) : Fn := fun As μ => match As with
  | [.ref a, .int i] => match strNo (f μ) a with
    | some n => if zin i (zlen.getD n 0) = true then some (some (g n i), μ) else none
    | none => none
  | _ => none
theorem strG_spec {f : Mm → Nat → Nat} {g : Nat → Int32 → Value} {As : List Value} {μ μ' : Mm} {r : Option Value} (h : strG f g As μ = some (r, μ')) : ∃ n i, n < 7 ∧ As = [.ref (f μ n), .int i] ∧ zin i (zlen.getD n 0) = true ∧ strNo (f μ) (f μ n) = some n ∧ r = some (g n i) ∧ μ' = μ := by
  unfold strG at h
  split at h
  case h_2 => cases h
  rename_i a i
  split at h
  case h_2 => cases h
  rename_i n hn
  split at h
  case isFalse => cases h
  rename_i hz
  cases h
  obtain ⟨h1, e⟩ := strNo_spec hn
  exact ⟨n, i, h1, by rw [e], hz, by rw [e]; exact hn, rfl, rfl⟩
def FJ3_coder : Fn := strF (fun _ => .int 0)
def FJ3_isLatin1 : Fn := strF (fun _ => .int 1)
def FJ3_length : Fn := strF (fun n => .int (Int32.ofNat (zlen.getD n 0)))
def FJ3_checkIndex : Fn := fun As μ => match As with
  | [.int i, .int n] => if 0 ≤ i ∧ i < n then some (none, μ) else none
  | _ => none
def zby (n : Nat) (i : Int32) : Int32 := (zbyt.getD n []).getD i.toNatClampNeg 0
def FJ4_charAt : Fn := strG sv (fun n i => .int (zby n i))
def FJ3_charAt : Fn := fun As μ => match As with
  | [.ref a, .int i] => match strNo (sa μ) a with
    | some n => if zin i (zlen.getD n 0) = true ∧ strNo (sv μ) (sv μ n) = some n ∧ strNo (sa μ) a = some n then some (some (.int (zby n i)), μ) else none
    | none => none
  | _ => none
theorem FJ3_charAt_spec {As : List Value} {μ μ' : Mm} {r : Option Value} (h : FJ3_charAt As μ = some (r, μ')) : ∃ n i, n < 7 ∧ As = [.ref (sa μ n), .int i] ∧ zin i (zlen.getD n 0) = true ∧ strNo (sa μ) (sa μ n) = some n ∧ strNo (sv μ) (sv μ n) = some n ∧ r = some (.int (zby n i)) ∧ μ' = μ := by
  unfold FJ3_charAt at h
  split at h
  case h_2 => cases h
  rename_i a i
  split at h
  case h_2 => cases h
  rename_i n hn
  split at h
  case isFalse => cases h
  rename_i hz
  cases h
  obtain ⟨h1, e⟩ := strNo_spec hn
  exact ⟨n, i, h1, by rw [e], hz.1, by rw [e]; exact hn, hz.2.1, rfl, rfl⟩
theorem FJ3_charAt_recv : ∀ As μ r, FJ3_charAt As μ = some r → ∃ n as, n < 7 ∧ As = .ref (sa μ n) :: as ∧ as.length = 1 := by
  intro As μ r h
  obtain ⟨n, i, h1, h2, -⟩ := FJ3_charAt_spec (r := r.1) (μ' := r.2) h
  exact ⟨n, [.int i], h1, h2, rfl⟩
theorem strG_len {f : Mm → Nat → Nat} {g : Nat → Int32 → Value} : ∀ As μ r, strG f g As μ = some r → As.length = 2 := by
  intro As μ r h
  obtain ⟨n, i, -, rfl, -⟩ := strG_spec (r := r.1) (μ' := r.2) h
  rfl
theorem FJ3_checkIndex_len : ∀ As μ r, FJ3_checkIndex As μ = some r → As.length = 2 := by
  intro As μ r h
  unfold FJ3_checkIndex at h
  split at h
  · rfl
  · cases h
theorem zlen_lt : ∀ n, n < 7 → zlen.getD n 0 < 7 := by decide +kernel
theorem zin_lt {i : Int32} {n : Nat} (hn : n < 7) (hz : zin i (zlen.getD n 0) = true) : 0 ≤ i ∧ i < Int32.ofNat (zlen.getD n 0) := by
  have hl := zlen_lt n hn
  generalize zlen.getD n 0 = N at hz hl ⊢
  simp only [zin, Bool.and_eq_true, decide_eq_true_eq] at hz
  refine ⟨hz.1, ?_⟩
  have h1 := Int32.le_iff_toInt_le.mp hz.1
  have h2 := hz.2
  have e2 : (0 : Int32).toInt = 0 := by decide
  have e3 : (nI N).toInt = N := nI_toInt (by omega)
  rw [Int32.lt_iff_toInt_lt]
  show i.toInt < (nI N).toInt
  rw [e3]
  simp only [Int32.toNatClampNeg] at h2
  omega
theorem zby_tab : ∀ n, n < 7 → ∀ i, i < 7 → i < zlen.getD n 0 → (((zbyt.getD n []).getD i 0 &&& 255).toUInt32 % 65536).toInt32 = (zbyt.getD n []).getD i 0 ∧ narrow .char (.int ((zbyt.getD n []).getD i 0)) = .int ((zbyt.getD n []).getD i 0) := by decide +kernel
theorem zby_ok {n : Nat} {i : Int32} (hn : n < 7) (hz : zin i (zlen.getD n 0) = true) : ((zby n i &&& 255).toUInt32 % 65536).toInt32 = zby n i ∧ narrow .char (.int (zby n i)) = .int (zby n i) := by
  have hl := zlen_lt n hn
  have hz' := hz
  simp only [zin, Bool.and_eq_true, decide_eq_true_eq] at hz'
  exact zby_tab n hn _ (by omega) hz'.2
theorem go_i2c {k : Kt} {own nm : String} {cc : ByteArray} {ret : Option FieldType} {fr lo : Nat} {pc : Nat} {L st : List Value} {x : Int32} {μ : Mm} (K : Ctx k own nm cc ret fr lo) (hd : decode cc pc = .ok (.i2c, 1)) (kk : Go k (pc + 1) L (.int (x.toUInt32 % 65536).toInt32 :: st) μ) : Go k pc L (.int x :: st) μ := by
  obtain ⟨p, l, e, R, s, m, args, below, meth, cd, Q, Z, nx0, sn0, NX, SN⟩ := k
  obtain ⟨hx, hb, hown, hts, hKK, hKS, hlk, hnm, hrt, hR1, hR2, hR3, hR4⟩ := K
  exact ⟨kk.1, fun H locs ls hH hF h0 h1 hl => lv_i2c hx hb hd rfl (kk.2 H locs ls hH hF h0 h1 hl)⟩
theorem FJ5_checkIndex_eq {i n : Int32} {vF : Value} {μ : Mm} (hv : vF.category = 1) (h0 : 0 ≤ i) (h1 : i < n) : FJ5_checkIndex [.int i, .int n, vF] μ = some (some (.int i), μ) := by
  have g0 : ¬ i < 0 := Int32.not_lt.mpr h0
  have g1 : ¬ n ≤ i := Int32.not_le.mpr h1
  have ez : zex [.int i, .int n, vF] = [.int i, .int n, vF] := by
    show (if (1 : Nat) = 2 then _ else _) = _
    rw [if_neg (by decide)]
    show _ :: (if (1 : Nat) = 2 then _ else _) = _
    rw [if_neg (by decide)]
    show _ :: _ :: (if vF.category = 2 then _ else _) = _
    rw [if_neg (by omega)]
    rfl
  unfold FJ5_checkIndex mth
  rw [if_pos ⟨rfl, by rw [ez]; exact Nat.le_refl 3, Or.inl rfl⟩]
  unfold zlo
  rw [ez]
  simp [BJ5_checkIndex, sSq, sIf, bO, bI, vI, cI, rLt, rGe, sSk, sRe, zfi, g0, g1]
theorem CJ3_coder : MetF yJ3_coder cJ3_coder 1 (some .byte) 1 12 FJ3_coder := met_go (by decide) (by
  intro As μ r μ' h
  obtain ⟨n, hn, rfl, rfl, rfl⟩ := strF_spec h
  refine ⟨Nat.le_refl _, ⟨Nat.le_refl _, Nat.le_refl _⟩, fun k K hR => ?_⟩
  refine go_gsC K q292 dJ3_coder_0 ?_
  refine go_if_eq_f (tgt := 13) K dJ3_coder_3 (by decide) (by decide) ?_
  refine go_aload_n K dJ3_coder_6 rfl rfl ?_
  refine go_scod K hn q1619 dJ3_coder_7 ?_
  refine go_goto (tgt := 14) K dJ3_coder_10 (by decide) ?_
  exact go_ireturn (st := []) K (by decide) dJ3_coder_14 hR)
theorem CJ3_isLatin1 : MetF yJ3_isLatin1 cJ3_isLatin1 1 (some .boolean) 1 12 FJ3_isLatin1 := met_go (by decide) (by
  intro As μ r μ' h
  obtain ⟨n, hn, rfl, rfl, rfl⟩ := strF_spec h
  refine ⟨Nat.le_refl _, ⟨Nat.le_refl _, Nat.le_refl _⟩, fun k K hR => ?_⟩
  refine go_gsC K q292 dJ3_isLatin1_0 ?_
  refine go_if_eq_f (tgt := 17) K dJ3_isLatin1_3 (by decide) (by decide) ?_
  refine go_aload_n K dJ3_isLatin1_6 rfl rfl ?_
  refine go_scod K hn q1619 dJ3_isLatin1_7 ?_
  refine go_if_ne_f (tgt := 17) K dJ3_isLatin1_10 (by decide) rfl ?_
  refine go_iconst (v := 1) K dJ3_isLatin1_13 rfl ?_
  refine go_goto (tgt := 18) K dJ3_isLatin1_14 (by decide) ?_
  exact go_ireturn (st := []) K (by decide) dJ3_isLatin1_18 hR)
theorem shr0 : ∀ n, n < 7 → (Int32.ofNat (zlen.getD n 0)) >>> ((0 : Int32) &&& 31) = Int32.ofNat (zlen.getD n 0) := by decide +kernel
theorem CJ3_length : MetF yJ3_length cJ3_length 1 (some .int) 2 32 FJ3_length := met_go (by decide) (by
  intro As μ r μ' h
  obtain ⟨n, hn, rfl, rfl, rfl⟩ := strF_spec h
  refine ⟨Nat.le_refl _, ⟨Nat.le_refl _, Nat.le_refl _⟩, fun k K hR => ?_⟩
  refine go_aload_n K dJ3_length_0 rfl rfl ?_
  refine go_sval K hn q1618 dJ3_length_1 ?_
  refine go_slen K hn dJ3_length_4 ?_
  refine go_aload_n K dJ3_length_5 rfl rfl ?_
  have hF : FJ3_coder [.ref (sa μ' n)] μ' = some (some (.int 0), μ') := by
    unfold FJ3_coder strF
    unfold FJ3_length strF at h
    dsimp only at h ⊢
    split at h
    · rfl
    · cases h
  refine (i_J3_335 CJ3_coder strF_recv : IRow RJ3 "length" _ FJ3_coder 2 32) (As := [.ref (sa μ' n)]) (st := [.int (Int32.ofNat (zlen.getD n 0))]) K dJ3_length_6 hF (show 1 ≤ 8 by decide) ?_
  refine go_ishr K dJ3_length_9 ?_
  rw [shr0 n hn]
  exact go_ireturn (st := []) K rfl dJ3_length_10 hR)
theorem CJ3_checkIndex : MetF yJ3_checkIndex cJ3_checkIndex 2 none 2 40 FJ3_checkIndex := met_go (by decide) (by
  intro As μ r μ' h
  unfold FJ3_checkIndex at h
  split at h
  case h_2 => cases h
  rename_i i n
  split at h
  case isFalse => cases h
  rename_i hi
  cases h
  refine ⟨Nat.le_refl _, ⟨Nat.le_refl _, Nat.le_refl _⟩, fun k K hR => ?_⟩
  refine go_iload_n K dJ3_checkIndex_0 rfl rfl ?_
  refine go_iload_n K dJ3_checkIndex_1 rfl rfl ?_
  refine go_gsF K q308 dJ3_checkIndex_2 (fun vF hv => ?_)
  have hF : FJ5_checkIndex [.int i, .int n, vF] μ = some (some (.int i), μ) := FJ5_checkIndex_eq hv hi.1 hi.2
  refine (i_J3_1059 CJ5_checkIndex mth_len : IRow RJ3 "checkIndex" _ FJ5_checkIndex 2 40) (As := [.int i, .int n, vF]) (st := []) K dJ3_checkIndex_5 hF (by decide) ?_
  refine go_pop K dJ3_checkIndex_8 rfl ?_
  exact go_return (st := []) K dJ3_checkIndex_9 hR)
theorem CJ4_charAt : MetF yJ4_charAt cJ4_charAt 2 (some .char) 3 70 FJ4_charAt := met_go (by decide) (by
  intro As μ r μ' h
  obtain ⟨n, i, hn, rfl, hz, -, rfl, rfl⟩ := strG_spec h
  refine ⟨Nat.le_refl _, ⟨Nat.le_refl _, Nat.le_refl _⟩, fun k K hR => ?_⟩
  refine go_iload_n K dJ4_charAt_0 rfl rfl ?_
  refine go_aload_n K dJ4_charAt_1 rfl rfl ?_
  refine go_slen K hn dJ4_charAt_2 ?_
  have hF : FJ3_checkIndex [.int i, .int (Int32.ofNat (zlen.getD n 0))] μ' = some (none, μ') := by
    unfold FJ3_checkIndex
    exact if_pos (zin_lt hn hz)
  refine (i_J4_9 CJ3_checkIndex (FJ3_checkIndex_len) : IRow RJ4 "charAt" _ FJ3_checkIndex 3 70) (As := [.int i, .int (Int32.ofNat (zlen.getD n 0))]) (st := []) K dJ4_charAt_3 hF (by decide) ?_
  refine go_aload_n K dJ4_charAt_6 rfl rfl ?_
  refine go_iload_n K dJ4_charAt_7 rfl rfl ?_
  refine go_sbyt K hn hz dJ4_charAt_8 ?_
  refine go_sipush (v := 255) K dJ4_charAt_9 rfl ?_
  refine go_iand K dJ4_charAt_12 ?_
  refine go_i2c K dJ4_charAt_13 ?_
  obtain ⟨z1, z2⟩ := zby_ok hn hz
  have z1' : (((zbyt.getD n []).getD i.toNatClampNeg 0 &&& 255).toUInt32 % 65536).toInt32 = zby n i := z1
  rw [z1']
  exact go_ireturn (st := []) K z2 dJ4_charAt_14 hR)
theorem CJ3_charAt : MetF yJ3_charAt cJ3_charAt 2 (some .char) 4 100 FJ3_charAt := met_go (by decide) (by
  intro As μ r μ' h
  obtain ⟨n, i, hn, rfl, hz, hs, hs2, rfl, rfl⟩ := FJ3_charAt_spec h
  refine ⟨Nat.le_refl _, ⟨Nat.le_refl _, Nat.le_refl _⟩, fun k K hR => ?_⟩
  refine go_aload_n K dJ3_charAt_0 rfl rfl ?_
  have hF : FJ3_isLatin1 [.ref (sa μ' n)] μ' = some (some (.int 1), μ') := by
    unfold FJ3_isLatin1 strF
    dsimp only
    rw [hs]
  refine (i_J3_492 CJ3_isLatin1 strF_recv : IRow RJ3 "charAt" _ FJ3_isLatin1 4 100) (As := [.ref (sa μ' n)]) (st := []) K dJ3_charAt_1 hF (by decide) ?_
  refine go_if_eq_f (tgt := 16) K dJ3_charAt_4 (by decide) (by decide) ?_
  refine go_aload_n K dJ3_charAt_7 rfl rfl ?_
  refine go_sval K hn q1618 dJ3_charAt_8 ?_
  refine go_iload_n K dJ3_charAt_11 rfl rfl ?_
  have hF2 : FJ4_charAt [.ref (sv μ' n), .int i] μ' = some (some (.int (zby n i)), μ') := by
    unfold FJ4_charAt strG
    dsimp only
    rw [hs2]
    exact if_pos hz
  refine (i_J3_495 CJ4_charAt strG_len : IRow RJ3 "charAt" _ FJ4_charAt 4 100) (As := [.ref (sv μ' n), .int i]) (st := []) K dJ3_charAt_12 hF2 (by decide) ?_
  exact go_ireturn (st := []) K (zby_ok hn hz).2 dJ3_charAt_15 hR)
