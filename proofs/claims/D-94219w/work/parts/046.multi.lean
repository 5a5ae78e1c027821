set_option maxRecDepth 100000
/-! arrays of arrays: the rows of multianewarray, two and three deep -/
theorem zcl_le {x b : Int32} {B : Nat} (h0 : 0 ≤ x) (h : x ≤ b) (hb : b.toInt = B) : x.toNatClampNeg ≤ B := by
  have h1 := Int32.le_iff_toInt_le.mp h
  simp only [Int32.toNatClampNeg]
  omega
theorem zAO_use {t : FieldType} {A : Array Value} {U : State} (h : (Cond.arrayOver (.array t)).before #[] U = true) : (Cond.arrayOver (.array t)).before A U = true := h
def preR (q m : Nat) (μ0 : Mm) : Nat → Mm
  | 0 => μ0
  | i + 1 => setA (newA (preR q m μ0 i) 0 m) 7 q i (.ref (nx (preR q m μ0 i)))
theorem mkR_pre (q m : Nat) (μ0 : Mm) : ∀ n i, mkR q m n i (preR q m μ0 i) = preR q m μ0 (i + n) := by
  intro n
  induction n with
  | zero => intro i; rfl
  | succ n ih =>
    intro i
    show mkR q m n (i + 1) (preR q m μ0 (i + 1)) = _
    rw [ih (i + 1)]
    congr 1
    omega
theorem mk2_pre (μ : Mm) (n m : Nat) : mk2 μ n m = preR (nx μ) m (newA μ 7 n) n := by
  have h := mkR_pre (nx μ) m (newA μ 7 n) n 0
  rw [Nat.zero_add] at h
  exact h
theorem preR_nx (q m : Nat) (μ0 : Mm) : ∀ i, nx (preR q m μ0 i) = nx μ0 + i ∧ sn (preR q m μ0 i) = sn μ0 + i * m := by
  intro i
  induction i with
  | zero => exact ⟨rfl, by show sn μ0 = _; omega⟩
  | succ i ih =>
    have e1 : nx (preR q m μ0 (i + 1)) = nx (preR q m μ0 i) + 1 := rfl
    have e2 : sn (preR q m μ0 (i + 1)) = sn (preR q m μ0 i) + m := rfl
    rw [e1, e2, ih.1, ih.2, Nat.succ_mul]
    omega
theorem mk2_nx (μ : Mm) (n m : Nat) : nx (mk2 μ n m) = nx μ + 1 + n ∧ sn (mk2 μ n m) = sn μ + n + n * m := by
  rw [mk2_pre]
  exact preR_nx (nx μ) m (newA μ 7 n) n
theorem preR_kd (q m : Nat) (μ0 : Mm) (h : q < nx μ0) : ∀ i, kd (preR q m μ0 i) q = kd μ0 q ∧ ln (preR q m μ0 i) q = ln μ0 q := by
  intro i
  induction i with
  | zero => exact ⟨rfl, rfl⟩
  | succ i ih =>
    have hn := (preR_nx q m μ0 i).1
    have e1 : kd (preR q m μ0 (i + 1)) q = if q = nx (preR q m μ0 i) then 100 + 0 else kd (preR q m μ0 i) q := rfl
    have e2 : ln (preR q m μ0 (i + 1)) q = if q = nx (preR q m μ0 i) then m else ln (preR q m μ0 i) q := rfl
    rw [e1, e2, if_neg (by omega), if_neg (by omega)]
    exact ih
/-- a grid of ints: the heap that the machine fills is the memory's -/
theorem HPfill {Z : Zt} {μ : Mm} {T : State} {n m : Nat} (hH : HP Z μ T.heap) (hsz : T.heap.size = nx μ) : ∀ i, i ≤ n → HP Z (preR (nx μ) m (newA μ 7 n) i) (Jvm.Free.Multi.fill T (zC Z 7) (zC Z 0) n m (.int 0) i).heap := by
  intro i
  induction i with
  | zero =>
    intro _
    refine HP.nA hH hsz (by decide) ?_ ?_
    · have h := (Jvm.Free.Multi.fill_facts T (zC Z 7) (zC Z 0) n m (.int 0) 0).2.1
      rw [hsz] at h
      rw [h]
      show some ({ cls := zC Z 7, slots := Array.replicate n .null, vm := .none } : Cell) = _
      rw [arrV_new]
      rfl
    · intro q hq
      exact Jvm.Free.Multi.fill_old T (zC Z 7) (zC Z 0) n m (.int 0) (a := q) (by rw [hsz]; exact hq) 0
  | succ i ih =>
    intro hi
    have ih := ih (by omega)
    obtain ⟨f1, f2, -, -⟩ := Jvm.Free.Multi.fill_facts T (zC Z 7) (zC Z 0) n m (.int 0) i
    generalize hU : Jvm.Free.Multi.fill T (zC Z 7) (zC Z 0) n m (.int 0) i = U at ih f1 f2
    have hp := preR_nx (nx μ) m (newA μ 7 n) i
    have hk := preR_kd (nx μ) m (newA μ 7 n) (by show nx μ < nx μ + 1; omega) i
    generalize hP : preR (nx μ) m (newA μ 7 n) i = P at ih hp hk
    have hnP : nx P = nx μ + 1 + i := hp.1
    have hUs : U.heap.size = nx P := by rw [f1, hsz, hnP]
    have hk7 : kd P (nx μ) = 100 + 7 := by rw [hk.1]; exact if_pos rfl
    have g1 : (U.pushCell (Jvm.Free.Multi.innerC (zC Z 0) m (.int 0))).heap = U.heap.push (Jvm.Free.Multi.innerC (zC Z 0) m (.int 0)) := rfl
    have h1 : HP Z (newA P 0 m) (U.pushCell (Jvm.Free.Multi.innerC (zC Z 0) m (.int 0))).heap := by
      refine HP.nA ih hUs (by decide) ?_ ?_
      · rw [g1, ← hUs, Array.getElem?_push_size]
        show some ({ cls := zC Z 0, slots := Array.replicate m (.int 0), vm := .none } : Cell) = _
        rw [arrV_new]
        rfl
      · intro q hq
        rw [g1, Array.getElem?_push, if_neg (by omega)]
    have hlt : nx μ < U.heap.size := by omega
    have hcell : (U.pushCell (Jvm.Free.Multi.innerC (zC Z 0) m (.int 0))).heap[nx μ]? = some (Jvm.Free.Multi.outerC (zC Z 7) n (nx μ) i) := by
      rw [g1, Array.getElem?_push, if_neg (by omega), ← hsz]
      rw [hsz] at f2 ⊢
      exact f2
    have hk7' : kd (newA P 0 m) (nx μ) = 100 + 7 := by
      show (if nx μ = nx P then 100 + 0 else kd P (nx μ)) = _
      rw [if_neg (by omega)]
      exact hk7
    have hA := (h1.2.1 (nx μ) 7 hk7' (by decide)).2
    have hout := Option.some.inj (hcell.symm.trans hA)
    have e9 : preR (nx μ) m (newA μ 7 n) (i + 1) = setA (newA P 0 m) 7 (nx μ) i (.ref (nx P)) := by
      show setA (newA (preR (nx μ) m (newA μ 7 n) i) 0 m) 7 (nx μ) i (.ref (nx (preR (nx μ) m (newA μ 7 n) i))) = _
      rw [hP]
    have e8 : (Jvm.Free.Multi.fill T (zC Z 7) (zC Z 0) n m (.int 0) (i + 1)).heap = ((U.pushCell (Jvm.Free.Multi.innerC (zC Z 0) m (.int 0))).setCell (nx μ) (Jvm.Free.Multi.outerC (zC Z 7) n (nx μ) (i + 1))).heap := by
      show (((Jvm.Free.Multi.fill T (zC Z 7) (zC Z 0) n m (.int 0) i).pushCell _).setCell T.heap.size (Jvm.Free.Multi.outerC (zC Z 7) n T.heap.size (i + 1))).heap = _
      rw [hU, hsz]
    rw [e9, e8]
    refine HP.sA h1 hk7' (by decide) ?_ ?_
    · rw [State.heap_setCell_self hcell]
      show some ((Jvm.Free.Multi.outerC (zC Z 7) n (nx μ) i).setSlot i (.ref (nx μ + 1 + i))) = _
      rw [hout, arrV_store, hnP]
    · intro q hq
      exact State.heap_setCell_other (Ne.symm hq)
theorem mkM2 {own : String} {idx : Nat} (hq : Cond.classLink own idx "[[I" ∈ lw_all) : M2Row own idx := by
  intro k nm cc ret fr lo K pc L st x y μ hd hx0 hx1 hy0 hy1 kk
  obtain ⟨p, l, e, R, s, m, args, below, meth, cd, Q, Z, nx0, sn0, NX, SN⟩ := k
  obtain ⟨hx, hb, hown, hts, hKK, hKS, hlk, hnm, hrt, hR1, hR2, hR3, hR4⟩ := K
  have hcx : x.toNatClampNeg ≤ 1000 := zcl_le hx0 hx1 (by decide)
  have hcy : y.toNatClampNeg ≤ 2000 := zcl_le hy0 hy1 (by decide)
  generalize hn : x.toNatClampNeg = n at kk hcx
  generalize hm : y.toNatClampNeg = k9 at kk hcy
  have hz := mk2_nx μ n k9
  have hb1 := kk.1
  rw [hz.1, hz.2] at hb1
  refine ⟨⟨by omega, by have := Nat.zero_le (n * k9); omega⟩, fun H locs ls hH hF h0 h1 hl => ?_⟩
  intro T hT X
  obtain ⟨vm1, cA, comp, hW1, hfA, hfC, -, -, X1, step⟩ := X.multianewarray2F hx (own := own) (index := idx) (ty := .int) hown (hts _ hq) (zAO_use (hKK.2.2.2.2.2.2 .int (by decide))) (hts _ q195) (g := F0 m pc ls (.int y :: .int x :: st)) rfl (by rw [hb]; exact hd) (n := x) (k := y) (rest := st) rfl (i32_nn hx0) (i32_nn hy0)
    (by rw [hn]; omega) (by rw [hm]; show k9 * 4 ≤ _; omega) (by rw [hm]; omega) rfl rfl (by rw [hn, hR1]; omega) (by rw [hn, hm, hR2]; omega)
  rw [hn, hm] at X1 step
  have e7 : cA = zC Z 7 := by
    have h := (zK hKK 7 rfl).2
    exact Option.some.inj (hfA.symm.trans h)
  have e0 : comp = zC Z 0 := by
    have h := (zK hKK 0 rfl).2
    exact Option.some.inj (hfC.symm.trans h)
  subst e7
  subst e0
  have hsz : (T.setVm vm1).heap.size = nx μ := by show T.heap.size = _; rw [hT]; exact hF.1
  have hHP := HPfill (n := n) (m := k9) (T := T.setVm vm1) (μ := μ) (by show HP Z μ T.heap; rw [hT]; exact hH) hsz n (Nat.le_refl n)
  rw [← mk2_pre] at hHP
  obtain ⟨f1, -, -, -⟩ := Jvm.Free.Multi.fill_facts (T.setVm vm1) (zC Z 7) (zC Z 0) n k9 (defaultValue .int) n
  have hFR : FR (zB Z) s.heap (Jvm.Free.Multi.fill (T.setVm vm1) (zC Z 7) (zC Z 0) n k9 (defaultValue .int) n).heap locs (nx (mk2 μ n k9)) := by
    refine ⟨by rw [f1, hz.1, hsz], fun q hq' => ?_, hF.2.2.1, by have := hF.2.2.2; omega⟩
    have hq9 : q < (T.setVm vm1).heap.size := by have := hH.2.2.1; omega
    rw [Jvm.Free.Multi.fill_old (T.setVm vm1) _ _ _ _ _ hq9]
    show T.heap[q]? = _
    rw [hT]
    exact hF.2.1 q hq'
  have c1 : nx μ - nx0 + 1 + n = nx (mk2 μ n k9) - nx0 := by omega
  have c2 : sn μ - sn0 + n + n * k9 = sn (mk2 μ n k9) - sn0 := by rw [hz.2]; have := Nat.zero_le (n * k9); omega
  rw [c1, c2] at X1
  obtain ⟨t, a1, b1⟩ := kk.2 _ locs ls hHP hFR (by omega) (by rw [hz.2]; have := Nat.zero_le (n * k9); omega) hl _ rfl X1
  refine ⟨t, step t ?_, b1⟩
  rw [hT, hF.1]
  exact a1
/-! three deep -/
def out3 (c : ClassId) (K h0 st : Nat) : Nat → Cell
  | 0 => { cls := c, slots := Array.replicate K .null, vm := .none }
  | i + 1 => (out3 c K h0 st i).setSlot i (.ref (h0 + 1 + i * st))
def fill3 (s : State) (c c2 c1 : ClassId) (K N M : Nat) (dv : Value) : Nat → State
  | 0 => s.pushCell (out3 c K s.heap.size (1 + N) 0)
  | i + 1 => (Jvm.Free.Multi.fill (fill3 s c c2 c1 K N M dv i) c2 c1 N M dv N).setCell s.heap.size (out3 c K s.heap.size (1 + N) (i + 1))
theorem out3_facts (c : ClassId) (K h0 st : Nat) : ∀ i, (out3 c K h0 st i).cls = c ∧ (out3 c K h0 st i).vm = .none ∧ (out3 c K h0 st i).slots.size = K
  | 0 => ⟨rfl, rfl, by simp [out3]⟩
  | i + 1 => by
    obtain ⟨a, b, d⟩ := out3_facts c K h0 st i
    exact ⟨by simp [out3, Cell.setSlot, a], by simp [out3, Cell.setSlot, b], by simp [out3, Cell.setSlot, d]⟩
theorem fill3_facts (s : State) (c c2 c1 : ClassId) (K N M : Nat) (dv : Value) : ∀ i, (fill3 s c c2 c1 K N M dv i).heap.size = s.heap.size + 1 + i * (1 + N) ∧ (fill3 s c c2 c1 K N M dv i).heap[s.heap.size]? = some (out3 c K s.heap.size (1 + N) i) ∧
    (fill3 s c c2 c1 K N M dv i).vm = s.vm ∧ (fill3 s c c2 c1 K N M dv i).slotsUsed = s.slotsUsed + K + i * (N + N * M)
  | 0 => ⟨by simp [fill3], by simp [fill3], rfl, by simp [fill3, out3]⟩
  | i + 1 => by
    obtain ⟨a, b, d, u⟩ := fill3_facts s c c2 c1 K N M dv i
    obtain ⟨a', -, d', u'⟩ := Jvm.Free.Multi.fill_facts (fill3 s c c2 c1 K N M dv i) c2 c1 N M dv N
    have hlt : s.heap.size < (fill3 s c c2 c1 K N M dv i).heap.size := by omega
    have hb' : (Jvm.Free.Multi.fill (fill3 s c c2 c1 K N M dv i) c2 c1 N M dv N).heap[s.heap.size]? = some (out3 c K s.heap.size (1 + N) i) := by
      rw [Jvm.Free.Multi.fill_old _ _ _ _ _ _ hlt]
      exact b
    refine ⟨?_, State.heap_setCell_self hb', ?_, ?_⟩
    · show ((Jvm.Free.Multi.fill (fill3 s c c2 c1 K N M dv i) c2 c1 N M dv N).setCell s.heap.size _).heap.size = _
      rw [size_setCell, a', a, Nat.succ_mul]
      omega
    · show (Jvm.Free.Multi.fill (fill3 s c c2 c1 K N M dv i) c2 c1 N M dv N).vm = _
      rw [d', d]
    · show (Jvm.Free.Multi.fill (fill3 s c c2 c1 K N M dv i) c2 c1 N M dv N).slotsUsed = _
      rw [u', u, Nat.succ_mul]
      omega
theorem fill3_old (s : State) (c c2 c1 : ClassId) (K N M : Nat) (dv : Value) {a : Addr} (ha : a < s.heap.size) : ∀ i, (fill3 s c c2 c1 K N M dv i).heap[a]? = s.heap[a]?
  | 0 => State.heap_pushCell_of_lt _ _ ha
  | i + 1 => by
    have f1 := (fill3_facts s c c2 c1 K N M dv i).1
    have hlt : a < (fill3 s c c2 c1 K N M dv i).heap.size := Nat.lt_of_lt_of_le ha (by rw [f1]; omega)
    show ((Jvm.Free.Multi.fill (fill3 s c c2 c1 K N M dv i) c2 c1 N M dv N).setCell s.heap.size _).heap[a]? = _
    rw [State.heap_setCell_other (Nat.ne_of_gt ha), Jvm.Free.Multi.fill_old _ _ _ _ _ _ hlt]
    exact fill3_old s c c2 c1 K N M dv ha i
theorem fill3_setTop (s : State) (f : JFrame) (c c2 c1 : ClassId) (K N M : Nat) (dv : Value) : ∀ i, fill3 (s.setTop f) c c2 c1 K N M dv i = (fill3 s c c2 c1 K N M dv i).setTop f
  | 0 => rfl
  | i + 1 => by simp only [fill3, fill3_setTop s f c c2 c1 K N M dv i, Jvm.Free.Multi.fill_setTop, State.heap_setTop, State.setCell_setTop]
theorem zwp_make3 {E : CtlPost} {e : Env} {d : Bool} {acts : List Action} {s : State} {c c2 c1 cc : ClassId} {k k2 k1 : Class} {t0 t1 type : FieldType} {x y z : Int32} (hk : s.vm.classes[c]? = some k) (hkind : k.kind = .array c2 t0) (href : t0.isReference = true)
    (hk2 : s.vm.classes[c2]? = some k2) (hkind2 : k2.kind = .array c1 t1) (href1 : t1.isReference = true) (hk1 : s.vm.classes[c1]? = some k1) (hkind1 : k1.kind = .array cc type) (hx : ¬ x < 0) (hy : ¬ y < 0) (hz : ¬ z < 0)
    (hl0 : ¬ x.toNatClampNeg > e.platform.arrayLengthLimit) (hh0 : ¬ x.toNatClampNeg * componentBytes t0 > e.platform.maxHeapBytes)
    (hl1 : ¬ y.toNatClampNeg > e.platform.arrayLengthLimit) (hh1 : ¬ y.toNatClampNeg * componentBytes t1 > e.platform.maxHeapBytes)
    (hl2 : ¬ z.toNatClampNeg > e.platform.arrayLengthLimit) (hh2 : ¬ z.toNatClampNeg * componentBytes type > e.platform.maxHeapBytes)
    (hdf : fits type (defaultValue type) = true) (hdd : (defaultValue type).isDefault = true)
    (hc : s.heap.size + 1 + x.toNatClampNeg * (1 + y.toNatClampNeg) ≤ e.platform.maxCells) (hs : s.slotsUsed + x.toNatClampNeg + x.toNatClampNeg * (y.toNatClampNeg + y.toNatClampNeg * z.toNatClampNeg) ≤ e.platform.maxSlots)
    {Q : Addr → Pre} (hq : ∀ d' acts', Q s.heap.size d' acts' (fill3 s c c2 c1 x.toNatClampNeg y.toNatClampNeg z.toNatClampNeg (defaultValue type) x.toNatClampNeg)) :
    wp (multianewarray.make c [x, y, z]) Q E e d acts s := by
  have hfind : ([y, z].find? (· < 0)) = none := by simp [hy, hz]
  rw [multianewarray.make]
  simp only [wp_bind', W.ite, hx, if_false, wp_pure', W.theClass, hk, hkind, Option.some.injEq, exists_eq_left']
  refine Jvm.Free.Multi.wp_newArray hk hkind hl0 hh0 (Jvm.Free.Multi.refFits href _ (Or.inl rfl)) rfl (by omega) (by have := Nat.zero_le (x.toNatClampNeg * (y.toNatClampNeg + y.toNatClampNeg * z.toNatClampNeg)); omega) ?_
  simp only [hfind]
  rw [ite_self, wp_bind', Std.Legacy.Range.forIn_eq_forIn_range']
  have hsz : ([:x.toNatClampNeg] : Std.Legacy.Range).size = x.toNatClampNeg := by simp [Std.Legacy.Range.size]
  rw [hsz]
  show wp (forIn (List.range' 0 x.toNatClampNeg 1) PUnit.unit _) _ E e d acts _
  refine wp_forIn_inv (fun rest s' => ∃ i, i ≤ x.toNatClampNeg ∧ rest = List.range' i (x.toNatClampNeg - i) ∧ s' = fill3 s c c2 c1 x.toNatClampNeg y.toNatClampNeg z.toNatClampNeg (defaultValue type) i) _ _ ⟨0, Nat.zero_le _, rfl, rfl⟩ ?_ ?_
  · rintro w rest s' d' acts' Q' ⟨i, hi, hl, rfl⟩ hnext
    have hlt : i < x.toNatClampNeg := by
      rcases Nat.lt_or_ge i x.toNatClampNeg with h | h
      · exact h
      · rw [show x.toNatClampNeg - i = 0 from by omega] at hl; simp at hl
    obtain ⟨rfl, hrest⟩ : w = i ∧ rest = List.range' (i + 1) (x.toNatClampNeg - (i + 1)) := by
      rw [show x.toNatClampNeg - i = (x.toNatClampNeg - (i + 1)) + 1 from by omega, List.range'_succ] at hl
      exact ⟨(List.cons.inj hl).1, (List.cons.inj hl).2⟩
    obtain ⟨f1, f2, f3, f4⟩ := fill3_facts s c c2 c1 x.toNatClampNeg y.toNatClampNeg z.toNatClampNeg (defaultValue type) w
    obtain ⟨o1, o2, o3⟩ := out3_facts c x.toNatClampNeg s.heap.size (1 + y.toNatClampNeg) w
    have hmul := Nat.mul_le_mul_right (y.toNatClampNeg + y.toNatClampNeg * z.toNatClampNeg) (show w + 1 ≤ x.toNatClampNeg from hlt)
    have hmul2 := Nat.mul_le_mul_right (1 + y.toNatClampNeg) (show w + 1 ≤ x.toNatClampNeg from hlt)
    rw [Nat.succ_mul] at hmul hmul2
    simp only [wp_bind']
    refine Jvm.Free.Multi.wp_make2 (k := k2) (kc := k1) (by rw [f3]; exact hk2) hkind2 href1 (by rw [f3]; exact hk1) hkind1 hy hz hl1 hh1 hl2 hh2 hdf hdd (by rw [f1]; omega) (by rw [f4]; omega) (fun d'' acts'' => ?_)
    have hlt0 : s.heap.size < (fill3 s c c2 c1 x.toNatClampNeg y.toNatClampNeg z.toNatClampNeg (defaultValue type) w).heap.size := by rw [f1]; omega
    have hvm := (Jvm.Free.Multi.fill_facts (fill3 s c c2 c1 x.toNatClampNeg y.toNatClampNeg z.toNatClampNeg (defaultValue type) w) c2 c1 y.toNatClampNeg z.toNatClampNeg (defaultValue type) y.toNatClampNeg).2.2.1
    simp only [wp_bind', W.writeLoc, wp_pure']
    refine ⟨out3 c x.toNatClampNeg s.heap.size (1 + y.toNatClampNeg) w, by rw [Jvm.Free.Multi.fill_old _ _ _ _ _ _ hlt0]; exact f2, by rw [o2]; simp, by rw [o3]; exact hlt, ?_, hnext _ _ _ ⟨w + 1, hlt, hrest, ?_⟩⟩
    · rw [o1, o2]
      simp [State.fitsSlot, State.slotType?, hvm, f3, hk, hkind, Jvm.Free.Multi.refFits href _ (Or.inr ⟨_, rfl⟩)]
    · rw [f1]; rfl
  · rintro s' d' acts' ⟨i, hi, hl, rfl⟩
    have hiN : i = x.toNatClampNeg := by
      rcases Nat.lt_or_ge i x.toNatClampNeg with h | h
      · rw [show x.toNatClampNeg - i = (x.toNatClampNeg - (i + 1)) + 1 from by omega, List.range'_succ] at hl; cases hl
      · omega
    subst hiN
    simp only [wp_pure']
    exact hq _ _
theorem zfilled3 {p : Program} {l : Launch} {e : Env} {R : Room} {s : State} {m : MethodId} {args : Array Value} {below : List Frame} {meth : Method} {c : Code} {T : State} {locs : List Loc} {cells slots : Nat} (X : Stand p l e R s m args below meth c T locs cells slots) (cA c2 c1 : ClassId) (K N M : Nat) (dv : Value) :
    ∀ i, Stand p l e R s m args below meth c (fill3 T cA c2 c1 K N M dv i) locs (cells + 1 + i * (1 + N)) (slots + K + i * (N + N * M))
  | 0 => by
    have h := X.pushed (out3 cA K T.heap.size (1 + N) 0)
    rw [(out3_facts cA K T.heap.size (1 + N) 0).2.2] at h
    simpa [fill3] using h
  | i + 1 => by
    have Xi := zfilled3 X cA c2 c1 K N M dv i
    obtain ⟨f1, f2, f3, f4⟩ := fill3_facts T cA c2 c1 K N M dv i
    have hlt0 : T.heap.size < (fill3 T cA c2 c1 K N M dv i).heap.size := by rw [f1]; omega
    have X2 := (Xi.filled c2 c1 N M dv N).dropFresh (fun x hx => by
      obtain ⟨j, -, rfl⟩ := List.mem_map.mp hx
      exact Xi.heapGrown)
    have hcell : (Jvm.Free.Multi.fill (fill3 T cA c2 c1 K N M dv i) c2 c1 N M dv N).heap[T.heap.size]? = some (out3 cA K T.heap.size (1 + N) i) := by
      rw [Jvm.Free.Multi.fill_old _ _ _ _ _ _ hlt0]
      exact f2
    have h := (X2.stored hcell i (.ref (T.heap.size + 1 + i * (1 + N)))).dropFresh (fun x hx => by
      rw [List.mem_singleton.mp hx]
      exact X.heapGrown)
    have e3 : slots + K + (i + 1) * (N + N * M) = slots + K + i * (N + N * M) + N + N * M := by rw [Nat.succ_mul]; omega
    have e2 : cells + 1 + (i + 1) * (1 + N) = cells + 1 + i * (1 + N) + 1 + N := by rw [Nat.succ_mul]; omega
    rw [e2, e3]
    exact h
theorem zmulti3 {p : Program} {l : Launch} {e : Env} {R : Room} {s : State} {m : MethodId} {args : Array Value} {below : List Frame} {meth : Method} {c : Code} {T : State} {locs : List Loc} {cells slots : Nat} (X : Stand p l e R s m args below meth c T locs cells slots) (hexec : p.tables.exec = Jvm.exec) {own : String} {index : Nat} {ty : FieldType}
    (hown : s.vm.findClass own = some m.cls) (hclink : (Cond.classLink own index ("[" ++ (FieldType.array (.array ty)).toString)).before args s = true)
    (hover2 : (Cond.arrayOver (.array (.array ty))).before args s = true) (hover : (Cond.arrayOver (.array ty)).before args s = true) (harr : (Cond.arrayClass ty).before args s = true)
    {g : JFrame} (hg : g.method = m) (hdg : decode c.code g.pc = .ok (.multianewarray index 3, 4)) {x y z : Int32} {rest : List Value} (hstack : g.stack = .int z :: .int y :: .int x :: rest)
    (hx : ¬ x < 0) (hy : ¬ y < 0) (hz : ¬ z < 0) (hb0 : x.toNatClampNeg * 4 ≤ 536870912) (hb1 : y.toNatClampNeg * 4 ≤ 536870912) (hb2 : z.toNatClampNeg * componentBytes ty ≤ 536870912) (hb3 : z.toNatClampNeg ≤ 536870912)
    (hdf : fits ty (defaultValue ty) = true) (hdd : (defaultValue ty).isDefault = true)
    (hcells : cells + (1 + x.toNatClampNeg * (1 + y.toNatClampNeg)) ≤ R.cells) (hslots : slots + (x.toNatClampNeg + x.toNatClampNeg * (y.toNatClampNeg + y.toNatClampNeg * z.toNatClampNeg)) ≤ R.slots) :
    ∃ (vm₁ : Vm) (cA c2 c1 : ClassId), s.vm.findClass ("[" ++ (FieldType.array (.array ty)).toString) = some cA ∧ s.vm.findClass (FieldType.array (.array ty)).toString = some c2 ∧ s.vm.findClass (FieldType.array ty).toString = some c1 ∧
      Stand p l e R s m args below meth c (fill3 (T.setVm vm₁) cA c2 c1 x.toNatClampNeg y.toNatClampNeg z.toNatClampNeg (defaultValue ty) x.toNatClampNeg) locs (cells + 1 + x.toNatClampNeg * (1 + y.toNatClampNeg)) (slots + x.toNatClampNeg + x.toNatClampNeg * (y.toNatClampNeg + y.toNatClampNeg * z.toNatClampNeg)) ∧
      ∀ target, Steps p.tables e below ((fill3 (T.setVm vm₁) cA c2 c1 x.toNatClampNeg y.toNatClampNeg z.toNatClampNeg (defaultValue ty) x.toNatClampNeg).setTop { g with pc := g.pc + 4, stack := .ref T.heap.size :: rest }) target →
        Steps p.tables e below (T.setTop g) target := by
  subst hg
  have hpl : e.platform.magicAccessors = ({} : Platform).magicAccessors := by rw [X.admits.platform]
  obtain ⟨c2, cA, kA, hc2, hkA, hkindA, hnameA⟩ := Cond.arrayOver_specA hover2
  obtain ⟨c1, c2', k2, hc1, hk2, hkind2, hname2⟩ := Cond.arrayOver_specA hover
  have ec2 : c2' = c2 := Option.some.inj (hname2.symm.trans hc2)
  subst ec2
  obtain ⟨c1', kC, cc, hcomp', hkC, hkindC⟩ := Cond.arrayClass_spec harr
  have ecomp : c1' = c1 := Option.some.inj (hcomp'.symm.trans hc1)
  subst ecomp
  obtain ⟨c0, hfc0, hcl⟩ := Cond.classLink_spec hown hclink e.platform hpl
  cases hnameA.symm.trans hfc0
  obtain ⟨hg₁, hwarm₁, hready₁⟩ := State.classEntry (e := e) X.warmed hcl
  generalize T.vm.noted g.method.cls index (.cls cA) = vm₁ at hg₁ hwarm₁ hready₁
  have hal : s.vm.Alike vm₁ := hwarm₁.alike
  obtain ⟨kA₁, hkA₁, heA⟩ := hal.2.2 _ _ hkA
  obtain ⟨k2₁, hk2₁, he2⟩ := hal.2.2 _ _ hk2
  obtain ⟨kC₁, hkC₁, heC⟩ := hal.2.2 _ _ hkC
  have hkindA₁ : kA₁.kind = .array c2' (.array (.array ty)) := by rw [heA]; exact hkindA
  have hkind2₁ : k2₁.kind = .array c1' (.array ty) := by rw [he2]; exact hkind2
  have hkindC₁ : kC₁.kind = .array cc ty := by rw [heC]; exact hkindC
  have X₁ := X.noted hwarm₁
  obtain ⟨hr1, hr2⟩ := X.roomAbove hcells hslots
  have XF := zfilled3 X₁ cA c2' c1' x.toNatClampNeg y.toNatClampNeg z.toNatClampNeg (defaultValue ty) x.toNatClampNeg
  refine ⟨vm₁, cA, c2', c1', hnameA, hc2, hc1, XF, fun target hrest => ?_⟩
  have hl0 : ¬ x.toNatClampNeg > e.platform.arrayLengthLimit := by rw [Launch.admits_arrayLengthLimit X.admits]; omega
  have hh0 : ¬ x.toNatClampNeg * componentBytes (.array (.array ty)) > e.platform.maxHeapBytes := by
    rw [Launch.admits_maxHeapBytes X.admits]; show ¬ x.toNatClampNeg * 4 > 536870912; omega
  have hl1 : ¬ y.toNatClampNeg > e.platform.arrayLengthLimit := by rw [Launch.admits_arrayLengthLimit X.admits]; omega
  have hh1 : ¬ y.toNatClampNeg * componentBytes (.array ty) > e.platform.maxHeapBytes := by
    rw [Launch.admits_maxHeapBytes X.admits]; show ¬ y.toNatClampNeg * 4 > 536870912; omega
  have hl2 : ¬ z.toNatClampNeg > e.platform.arrayLengthLimit := by rw [Launch.admits_arrayLengthLimit X.admits]; omega
  have hh2 : ¬ z.toNatClampNeg * componentBytes ty > e.platform.maxHeapBytes := by rw [Launch.admits_maxHeapBytes X.admits]; omega
  jvm_step X.here [hexec, hdg]
  simp only [multianewarray.sem, wp_bind', W.resolveClassAt_links (State.method?_setTop g X.here.top) hg₁]
  rw [W.popN, if_neg (by decide)]
  refine ⟨g, State.topJava?_setTop' (s := T.setVm vm₁) g X.here.top, [.int x, .int y, .int z], rest, rfl, hstack, ?_⟩
  simp only [List.mapM_cons, List.mapM_nil, wp_bind', wp_pure']
  refine zwp_make3 (k := kA₁) (k2 := k2₁) (k1 := kC₁) (c2 := c2') (c1 := c1') (cc := cc) (t0 := .array (.array ty)) (t1 := .array ty) (type := ty) hkA₁ hkindA₁ rfl hk2₁ hkind2₁ rfl hkC₁ hkindC₁ hx hy hz hl0 hh0 hl1 hh1 hl2 hh2 hdf hdd (by show T.heap.size + 1 + _ ≤ _; omega) (by show T.slotsUsed + _ + _ ≤ _; omega) (fun d' acts' => ?_)
  have eS : ((T.setTop g).setVm vm₁).setTop { g with stack := rest } = (T.setVm vm₁).setTop { g with stack := rest } := by
    show ((T.setVm vm₁).setTop g).setTop _ = _
    rw [State.setTop_setTop]
  rw [eS, fill3_setTop]
  simp only [wp_bind', W.mark, W.pushRef, State.topJava?_setTop' _ XF.here.top, Option.some.injEq, exists_eq_left', State.setTop_setTop, State.heap_setTop]
  intro acts
  simp [jvm, XF.here.top]
  exact hrest
/-! the memory's three deep -/
def preS (q n m : Nat) (μ0 : Mm) : Nat → Mm
  | 0 => μ0
  | i + 1 => setA (mk2 (preS q n m μ0 i) n m) 8 q i (.ref (nx (preS q n m μ0 i)))
theorem mkS_pre (q n m : Nat) (μ0 : Mm) : ∀ k i, mkS q n m k i (preS q n m μ0 i) = preS q n m μ0 (i + k) := by
  intro k
  induction k with
  | zero => intro i; rfl
  | succ k ih =>
    intro i
    show mkS q n m k (i + 1) (preS q n m μ0 (i + 1)) = _
    rw [ih (i + 1)]
    congr 1
    omega
theorem mk3_pre (μ : Mm) (k n m : Nat) : mk3 μ k n m = preS (nx μ) n m (newA μ 8 k) k := by
  have h := mkS_pre (nx μ) n m (newA μ 8 k) k 0
  rw [Nat.zero_add] at h
  exact h
theorem preS_nx (q n m : Nat) (μ0 : Mm) : ∀ i, nx (preS q n m μ0 i) = nx μ0 + i * (1 + n) ∧ sn (preS q n m μ0 i) = sn μ0 + i * (n + n * m) := by
  intro i
  induction i with
  | zero => exact ⟨by show nx μ0 = _; omega, by show sn μ0 = _; omega⟩
  | succ i ih =>
    have hz := mk2_nx (preS q n m μ0 i) n m
    have e1 : nx (preS q n m μ0 (i + 1)) = nx (mk2 (preS q n m μ0 i) n m) := rfl
    have e2 : sn (preS q n m μ0 (i + 1)) = sn (mk2 (preS q n m μ0 i) n m) := rfl
    rw [e1, e2, hz.1, hz.2, ih.1, ih.2, Nat.succ_mul, Nat.succ_mul]
    omega
theorem mk3_nx (μ : Mm) (k n m : Nat) : nx (mk3 μ k n m) = nx μ + 1 + k * (1 + n) ∧ sn (mk3 μ k n m) = sn μ + k + k * (n + n * m) := by
  rw [mk3_pre]
  exact preS_nx (nx μ) n m (newA μ 8 k) k
theorem mk2_kd (μ : Mm) (n m q : Nat) (h : q < nx μ) : kd (mk2 μ n m) q = kd μ q ∧ ln (mk2 μ n m) q = ln μ q := by
  rw [mk2_pre]
  have aux : ∀ i, kd (preR (nx μ) m (newA μ 7 n) i) q = kd μ q ∧ ln (preR (nx μ) m (newA μ 7 n) i) q = ln μ q := by
    intro i
    induction i with
    | zero =>
      have e1 : kd (newA μ 7 n) q = if q = nx μ then 100 + 7 else kd μ q := rfl
      have e2 : ln (newA μ 7 n) q = if q = nx μ then n else ln μ q := rfl
      exact ⟨e1.trans (if_neg (by omega)), e2.trans (if_neg (by omega))⟩
    | succ i ih =>
      have hn := (preR_nx (nx μ) m (newA μ 7 n) i).1
      have hn2 : nx (newA μ 7 n) = nx μ + 1 := rfl
      have e1 : kd (preR (nx μ) m (newA μ 7 n) (i + 1)) q = if q = nx (preR (nx μ) m (newA μ 7 n) i) then 100 + 0 else kd (preR (nx μ) m (newA μ 7 n) i) q := rfl
      have e2 : ln (preR (nx μ) m (newA μ 7 n) (i + 1)) q = if q = nx (preR (nx μ) m (newA μ 7 n) i) then m else ln (preR (nx μ) m (newA μ 7 n) i) q := rfl
      rw [e1, e2, if_neg (by omega), if_neg (by omega)]
      exact ih
  exact aux n
theorem preS_kd (q n m : Nat) (μ0 : Mm) (h : q < nx μ0) : ∀ i, kd (preS q n m μ0 i) q = kd μ0 q ∧ ln (preS q n m μ0 i) q = ln μ0 q := by
  intro i
  induction i with
  | zero => exact ⟨rfl, rfl⟩
  | succ i ih =>
    have hn := (preS_nx q n m μ0 i).1
    have h2 := mk2_kd (preS q n m μ0 i) n m q (by rw [hn]; omega)
    exact ⟨h2.1.trans ih.1, h2.2.trans ih.2⟩
theorem HPfill3 {Z : Zt} {μ : Mm} {T : State} {K n m : Nat} (hH : HP Z μ T.heap) (hsz : T.heap.size = nx μ) : ∀ i, i ≤ K → HP Z (preS (nx μ) n m (newA μ 8 K) i) (fill3 T (zC Z 8) (zC Z 7) (zC Z 0) K n m (.int 0) i).heap := by
  intro i
  induction i with
  | zero =>
    intro _
    refine HP.nA hH hsz (by decide) ?_ ?_
    · have h := (fill3_facts T (zC Z 8) (zC Z 7) (zC Z 0) K n m (.int 0) 0).2.1
      rw [hsz] at h
      rw [h]
      show some ({ cls := zC Z 8, slots := Array.replicate K .null, vm := .none } : Cell) = _
      rw [arrV_new]
      rfl
    · intro q hq
      exact fill3_old T (zC Z 8) (zC Z 7) (zC Z 0) K n m (.int 0) (a := q) (by rw [hsz]; exact hq) 0
  | succ i ih =>
    intro hi
    have ih := ih (by omega)
    obtain ⟨f1, f2, -, -⟩ := fill3_facts T (zC Z 8) (zC Z 7) (zC Z 0) K n m (.int 0) i
    have e8 : (fill3 T (zC Z 8) (zC Z 7) (zC Z 0) K n m (.int 0) (i + 1)).heap = ((Jvm.Free.Multi.fill (fill3 T (zC Z 8) (zC Z 7) (zC Z 0) K n m (.int 0) i) (zC Z 7) (zC Z 0) n m (.int 0) n).setCell (nx μ) (out3 (zC Z 8) K (nx μ) (1 + n) (i + 1))).heap := by
      show ((Jvm.Free.Multi.fill (fill3 T (zC Z 8) (zC Z 7) (zC Z 0) K n m (.int 0) i) (zC Z 7) (zC Z 0) n m (.int 0) n).setCell T.heap.size (out3 (zC Z 8) K T.heap.size (1 + n) (i + 1))).heap = _
      rw [hsz]
    rw [e8]
    generalize hU : fill3 T (zC Z 8) (zC Z 7) (zC Z 0) K n m (.int 0) i = U at ih f1 f2
    have hp := preS_nx (nx μ) n m (newA μ 8 K) i
    have hk := preS_kd (nx μ) n m (newA μ 8 K) (by show nx μ < nx μ + 1; omega) i
    have e9 : preS (nx μ) n m (newA μ 8 K) (i + 1) = setA (mk2 (preS (nx μ) n m (newA μ 8 K) i) n m) 8 (nx μ) i (.ref (nx (preS (nx μ) n m (newA μ 8 K) i))) := rfl
    rw [e9]
    generalize hP : preS (nx μ) n m (newA μ 8 K) i = P at ih hp hk
    have hnP : nx P = nx μ + 1 + i * (1 + n) := hp.1
    have hUs : U.heap.size = nx P := by rw [f1, hsz, hnP]
    have hlt : nx μ < U.heap.size := by omega
    have h1 : HP Z (mk2 P n m) (Jvm.Free.Multi.fill U (zC Z 7) (zC Z 0) n m (.int 0) n).heap := by
      rw [mk2_pre]
      exact HPfill ih hUs n (Nat.le_refl n)
    have hk8 : kd (mk2 P n m) (nx μ) = 100 + 8 := by
      rw [(mk2_kd P n m (nx μ) (by omega)).1, hk.1]
      exact if_pos rfl
    have hcell : (Jvm.Free.Multi.fill U (zC Z 7) (zC Z 0) n m (.int 0) n).heap[nx μ]? = some (out3 (zC Z 8) K (nx μ) (1 + n) i) := by
      rw [Jvm.Free.Multi.fill_old _ _ _ _ _ _ hlt]
      rw [hsz] at f2
      exact f2
    have hA := (h1.2.1 (nx μ) 8 hk8 (by decide)).2
    have hout := Option.some.inj (hcell.symm.trans hA)
    refine HP.sA h1 hk8 (by decide) ?_ ?_
    · rw [State.heap_setCell_self hcell]
      show some ((out3 (zC Z 8) K (nx μ) (1 + n) i).setSlot i (.ref (nx μ + 1 + i * (1 + n)))) = _
      rw [hout, arrV_store, hnP]
    · intro q hq
      exact State.heap_setCell_other (Ne.symm hq)
theorem mkM3 {own : String} {idx : Nat} (hq : Cond.classLink own idx "[[[I" ∈ lw_all) : M3Row own idx := by
  intro k nm cc ret fr lo K pc L st x y z μ hd hx0 hx1 hy0 hy1 hz0 hz1 kk
  obtain ⟨p, l, e, R, s, m, args, below, meth, cd, Q, Z, nx0, sn0, NX, SN⟩ := k
  obtain ⟨hx, hb, hown, hts, hKK, hKS, hlk, hnm, hrt, hR1, hR2, hR3, hR4⟩ := K
  have hcx : x.toNatClampNeg ≤ 1000 := zcl_le hx0 hx1 (by decide)
  have hcy : y.toNatClampNeg ≤ 1000 := zcl_le hy0 hy1 (by decide)
  have hcz : z.toNatClampNeg ≤ 2000 := zcl_le hz0 hz1 (by decide)
  generalize hK9 : x.toNatClampNeg = K9 at kk hcx
  generalize hn : y.toNatClampNeg = n at kk hcy
  generalize hm : z.toNatClampNeg = k9 at kk hcz
  have hz := mk3_nx μ K9 n k9
  have hb1 := kk.1
  rw [hz.1, hz.2] at hb1
  generalize hw1 : K9 * (1 + n) = w1 at hz hb1
  generalize hw2 : K9 * (n + n * k9) = w2 at hz hb1
  refine ⟨⟨by omega, by omega⟩, fun H locs ls hH hF h0 h1 hl => ?_⟩
  intro T hT X
  obtain ⟨vm1, cA, c2, c1, hfA, hf2, hf1, X1, step⟩ := zmulti3 X hx (own := own) (index := idx) (ty := .int) hown (hts _ hq) (zAO_use (hKK.2.2.2.2.2.2 (.array .int) (by decide))) (zAO_use (hKK.2.2.2.2.2.2 .int (by decide))) (hts _ q195) (g := F0 m pc ls (.int z :: .int y :: .int x :: st)) rfl (by rw [hb]; exact hd) (x := x) (y := y) (z := z) (rest := st) rfl (i32_nn hx0) (i32_nn hy0) (i32_nn hz0)
    (by rw [hK9]; omega) (by rw [hn]; omega) (by rw [hm]; show k9 * 4 ≤ _; omega) (by rw [hm]; omega) rfl rfl (by rw [hn, hK9, hR1, hw1]; omega) (by rw [hn, hm, hK9, hR2, hw2]; omega)
  rw [hn, hm, hK9] at X1 step
  have e8 : cA = zC Z 8 := by
    have h := (zK hKK 8 rfl).2
    exact Option.some.inj (hfA.symm.trans h)
  have e7 : c2 = zC Z 7 := by
    have h := (zK hKK 7 rfl).2
    exact Option.some.inj (hf2.symm.trans h)
  have e0 : c1 = zC Z 0 := by
    have h := (zK hKK 0 rfl).2
    exact Option.some.inj (hf1.symm.trans h)
  subst e8
  subst e7
  subst e0
  have hsz : (T.setVm vm1).heap.size = nx μ := by show T.heap.size = _; rw [hT]; exact hF.1
  have hHP := HPfill3 (K := K9) (n := n) (m := k9) (T := T.setVm vm1) (μ := μ) (by show HP Z μ T.heap; rw [hT]; exact hH) hsz K9 (Nat.le_refl K9)
  rw [← mk3_pre] at hHP
  obtain ⟨f1, -, -, -⟩ := fill3_facts (T.setVm vm1) (zC Z 8) (zC Z 7) (zC Z 0) K9 n k9 (defaultValue .int) K9
  rw [hw1] at f1
  have hFR : FR (zB Z) s.heap (fill3 (T.setVm vm1) (zC Z 8) (zC Z 7) (zC Z 0) K9 n k9 (defaultValue .int) K9).heap locs (nx (mk3 μ K9 n k9)) := by
    refine ⟨by rw [f1, hz.1, hsz], fun q hq' => ?_, hF.2.2.1, by have := hF.2.2.2; omega⟩
    have hq9 : q < (T.setVm vm1).heap.size := by have := hH.2.2.1; omega
    rw [fill3_old (T.setVm vm1) _ _ _ _ _ _ _ hq9]
    show T.heap[q]? = _
    rw [hT]
    exact hF.2.1 q hq'
  rw [hw1, hw2] at X1
  have c1 : nx μ - nx0 + 1 + w1 = nx (mk3 μ K9 n k9) - nx0 := by omega
  have c2 : sn μ - sn0 + K9 + w2 = sn (mk3 μ K9 n k9) - sn0 := by omega
  rw [c1, c2] at X1
  obtain ⟨t, a1, b1⟩ := kk.2 _ locs ls hHP hFR (by omega) (by omega) hl _ rfl X1
  refine ⟨t, step t ?_, b1⟩
  rw [hT, hF.1]
  exact a1
theorem mr_X0_47 : M3Row RX0 47 := mkM3 q557
theorem mr_X0_72 : M2Row RX0 72 := mkM2 q562
