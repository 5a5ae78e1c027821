set_option maxRecDepth 100000
/-! LAYER 0, the heap's rows: fields, arrays, new cells, calls -/
theorem HP.lt {Z : Zt} {μ : Mm} {H : Heap} {a c : Nat} (h : HP Z μ H) (hk : kd μ a = c + 1) (hc : c < 11) : a < H.size := by
  obtain ⟨-, r, -, cell, q1, -⟩ := h.1 a c hk hc
  exact (Array.getElem?_eq_some_iff.mp q1).1
theorem HP.ltA {Z : Zt} {μ : Mm} {H : Heap} {a t : Nat} (h : HP Z μ H) (hk : kd μ a = 100 + t) (ht : t < 12) : a < H.size :=
  (Array.getElem?_eq_some_iff.mp (h.2.1 a t hk ht).2).1
theorem t_OB.ev {o : Nat} {cC : ClassId} {N : Nat} {iS : Nat → Nat} {H : Heap} {V V' : Nat → Value} (h : t_OB o cC N iS H V) (hv : V = V') : t_OB o cC N iS H V' := hv ▸ h
theorem HP.sF {Z : Zt} {μ : Mm} {H H1 : Heap} {a c j : Nat} {v : Value} {r : vw_C} (h : HP Z μ H) (hk : kd μ a = c + 1) (hc : c < 11) (hr : zcl[c]? = some r) (hO : t_OB a ((zD Z).1 c) r.2.2 ((zD Z).2 c) H1 (updV (fun j => fd μ c j a) j v)) (hq : ∀ q : Nat, q ≠ a → H1[q]? = H[q]?) : HP Z (setF μ c j a v) H1 := by
  refine ⟨fun a' c' hk' hc' => ?_, fun a' t hk' ht => ?_, h.2.2.1, h.2.2.2.1, h.2.2.2.2.1, fun a' hk' => h.2.2.2.2.2 a' hk'⟩
  · have hk' : kd μ a' = c' + 1 := hk'
    by_cases e : a' = a
    · subst e
      have hcc : c' = c := by omega
      subst hcc
      refine ⟨(h.1 a' c' hk' hc').1, r, hr, hO.ev (funext fun i => ?_)⟩
      show updV (fun j => fd μ c' j a') j v i = (if c' = c' ∧ i = j ∧ a' = a' then v else μ.2.1 c' i a')
      simp only [updV, true_and, and_true]
      rfl
    · obtain ⟨h1, r', h2, h3⟩ := h.1 a' c' hk' hc'
      refine ⟨h1, r', h2, (h3.kept (hq a' e)).ev (funext fun i => ?_)⟩
      show fd μ c' i a' = (if c' = c ∧ i = j ∧ a' = a then v else μ.2.1 c' i a')
      rw [if_neg (fun z => e z.2.2)]
      rfl
  · have hk' : kd μ a' = 100 + t := hk'
    have e : a' ≠ a := fun e => by subst e; omega
    obtain ⟨h1, h2⟩ := h.2.1 a' t hk' ht
    exact ⟨h1, by rw [hq a' e]; exact h2⟩
theorem HP.sA {Z : Zt} {μ : Mm} {H H1 : Heap} {a t i : Nat} {v : Value} (h : HP Z μ H) (hk : kd μ a = 100 + t) (ht : t < 12) (hO : H1[a]? = some (arrV (zC Z t) (ln μ a) (updV (fun i => ar μ t a i) i v))) (hq : ∀ q : Nat, q ≠ a → H1[q]? = H[q]?) : HP Z (setA μ t a i v) H1 := by
  refine ⟨fun a' c' hk' hc' => ?_, fun a' t' hk' ht' => ?_, h.2.2.1, h.2.2.2.1, h.2.2.2.2.1, fun a' hk' => ?_⟩
  case refine_3 =>
    obtain ⟨x1, x2, x3⟩ := h.2.2.2.2.2 a' hk'
    refine ⟨x1, x2, fun i' hi' => ?_⟩
    show (if 12 = t ∧ a' = a ∧ i' = i then v else μ.2.2.2.1 12 a' i') = _
    rw [if_neg (fun z => by omega)]
    exact x3 i' hi'
  · have hk' : kd μ a' = c' + 1 := hk'
    have e : a' ≠ a := fun e => by subst e; omega
    obtain ⟨h1, r', h2, h3⟩ := h.1 a' c' hk' hc'
    exact ⟨h1, r', h2, h3.kept (hq a' e)⟩
  · have hk' : kd μ a' = 100 + t' := hk'
    obtain ⟨h1, h2⟩ := h.2.1 a' t' hk' ht'
    refine ⟨h1, ?_⟩
    by_cases e : a' = a
    · subst e
      have hcc : t' = t := by omega
      subst hcc
      rw [hO]
      congr 2
      funext q
      show updV (fun i => ar μ t' a' i) i v q = (if t' = t' ∧ a' = a' ∧ q = i then v else μ.2.2.2.1 t' a' q)
      simp only [updV, true_and]
      rfl
    · rw [hq a' e, h2]
      congr 2
      funext q
      show ar μ t' a' q = (if t' = t ∧ a' = a ∧ q = i then v else μ.2.2.2.1 t' a' q)
      rw [if_neg (fun z => e z.2.1)]
      rfl
theorem HP.nO {Z : Zt} {μ : Mm} {H H1 : Heap} {c ns : Nat} {r : vw_C} (h : HP Z μ H) (hsz : H.size = nx μ) (hc : c < 11) (hr : zcl[c]? = some r) (hO : t_OB (nx μ) ((zD Z).1 c) r.2.2 ((zD Z).2 c) H1 (fun j => defaultValue (zdt c j))) (hq : ∀ q : Nat, q < nx μ → H1[q]? = H[q]?) : HP Z (newO μ c ns) H1 := by
  refine ⟨fun a' c' hk' hc' => ?_, fun a' t' hk' ht' => ?_, Nat.le_succ_of_le h.2.2.1, h.2.2.2.1, h.2.2.2.2.1, fun a' hk' => ?_⟩
  case refine_3 =>
    have hk' : (if a' = nx μ then c + 1 else kd μ a') = 112 := hk'
    by_cases e : a' = nx μ
    · rw [if_pos e] at hk'
      omega
    · rw [if_neg e] at hk'
      exact h.2.2.2.2.2 a' hk'
  · have hk' : (if a' = nx μ then c + 1 else kd μ a') = c' + 1 := hk'
    by_cases e : a' = nx μ
    · subst e
      rw [if_pos rfl] at hk'
      have hcc : c' = c := by omega
      subst hcc
      refine ⟨h.2.2.1, r, hr, hO.ev (funext fun i => ?_)⟩
      show _ = (if c' = c' ∧ nx μ = nx μ then defaultValue (zdt c' i) else fd μ c' i (nx μ))
      rw [if_pos ⟨rfl, rfl⟩]
    · rw [if_neg e] at hk'
      obtain ⟨h1, r', h2, h3⟩ := h.1 a' c' hk' hc'
      have hl := h.lt hk' hc'
      refine ⟨h1, r', h2, (h3.kept (hq a' (by omega))).ev (funext fun i => ?_)⟩
      show fd μ c' i a' = (if c' = c ∧ a' = nx μ then defaultValue (zdt c i) else fd μ c' i a')
      rw [if_neg (fun z => e z.2)]
  · have hk' : (if a' = nx μ then c + 1 else kd μ a') = 100 + t' := hk'
    by_cases e : a' = nx μ
    · rw [if_pos e] at hk'
      omega
    · rw [if_neg e] at hk'
      obtain ⟨h1, h2⟩ := h.2.1 a' t' hk' ht'
      have hl := h.ltA hk' ht'
      exact ⟨h1, by rw [hq a' (by omega)]; exact h2⟩
theorem HP.nA {Z : Zt} {μ : Mm} {H H1 : Heap} {t n : Nat} (h : HP Z μ H) (hsz : H.size = nx μ) (ht : t < 12) (hO : H1[nx μ]? = some (arrV (zC Z t) n (fun _ => zdv t))) (hq : ∀ q : Nat, q < nx μ → H1[q]? = H[q]?) : HP Z (newA μ t n) H1 := by
  refine ⟨fun a' c' hk' hc' => ?_, fun a' t' hk' ht' => ?_, Nat.le_succ_of_le h.2.2.1, h.2.2.2.1, h.2.2.2.2.1, fun a' hk' => ?_⟩
  case refine_3 =>
    have hk' : (if a' = nx μ then 100 + t else kd μ a') = 112 := hk'
    by_cases e : a' = nx μ
    · rw [if_pos e] at hk'
      omega
    · rw [if_neg e] at hk'
      obtain ⟨x1, x2, x3⟩ := h.2.2.2.2.2 a' hk'
      refine ⟨x1, ?_, fun i' hi' => ?_⟩
      · show (if a' = nx μ then n else ln μ a') = _
        rw [if_neg e]
        exact x2
      · show (if 12 = t ∧ a' = nx μ then zdv t else ar μ 12 a' i') = _
        rw [if_neg (fun z => e z.2)]
        exact x3 i' hi'
  · have hk' : (if a' = nx μ then 100 + t else kd μ a') = c' + 1 := hk'
    by_cases e : a' = nx μ
    · rw [if_pos e] at hk'
      omega
    · rw [if_neg e] at hk'
      obtain ⟨h1, r', h2, h3⟩ := h.1 a' c' hk' hc'
      have hl := h.lt hk' hc'
      exact ⟨h1, r', h2, h3.kept (hq a' (by omega))⟩
  · have hk' : (if a' = nx μ then 100 + t else kd μ a') = 100 + t' := hk'
    by_cases e : a' = nx μ
    · subst e
      rw [if_pos rfl] at hk'
      have hcc : t' = t := by omega
      subst hcc
      refine ⟨fun _ => h.2.2.1, ?_⟩
      rw [hO]
      have e1 : ln (newA μ t' n) (nx μ) = n := if_pos rfl
      have e2 : (fun i => ar (newA μ t' n) t' (nx μ) i) = fun _ => zdv t' := funext fun i => if_pos ⟨rfl, rfl⟩
      rw [e1, e2]
    · rw [if_neg e] at hk'
      obtain ⟨h1, h2⟩ := h.2.1 a' t' hk' ht'
      have hl := h.ltA hk' ht'
      refine ⟨h1, ?_⟩
      rw [hq a' (by omega), h2]
      have e1 : ln (newA μ t n) a' = ln μ a' := if_neg e
      have e2 : (fun i => ar (newA μ t n) t' a' i) = fun i => ar μ t' a' i := funext fun i => if_neg (fun z => e z.2)
      rw [e1, e2]
theorem FR.put {b n a i : Nat} {H0 H H1 : Heap} {locs : List Loc} (h : FR b H0 H locs n) (z : H1.size = H.size) (oq : ∀ q : Nat, q ≠ a → H1[q]? = H[q]?) (ha : b ≤ a) : FR b H0 H1 (locs ++ [⟨a, i⟩]) n := by
  refine ⟨z.trans h.1, fun q hq => ?_, fun x hx => ?_, h.2.2.2⟩
  · rw [oq q (by omega)]
    exact h.2.1 q hq
  · rcases List.mem_append.mp hx with h1 | h1
    · exact h.2.2.1 x h1
    · rw [List.mem_singleton.mp h1]
      exact ha
theorem FR.push {b n : Nat} {H0 H H1 : Heap} {locs : List Loc} (h : FR b H0 H locs n) (z : H1.size = n + 1) (oq : ∀ q : Nat, q < n → H1[q]? = H[q]?) (hb : b ≤ n) : FR b H0 H1 locs (n + 1) :=
  ⟨z, fun q hq => by rw [oq q (by omega)]; exact h.2.1 q hq, h.2.2.1, Nat.le_succ_of_le h.2.2.2⟩
/-! fields -/
def GetRow (own : String) (idx c j : Nat) : Prop := ∀ {k : Kt} {nm : String} {cc : ByteArray} {ret : Option FieldType} {fr lo : Nat}, Ctx k own nm cc ret fr lo → ∀ {pc : Nat} {L st : List Value} {a : Nat} {μ : Mm}, decode cc pc = .ok (.getfield idx, 3) → kd μ a = c + 1 → Go k (pc + 3) L (fd μ c j a :: st) μ → Go k pc L (.ref a :: st) μ
theorem mkGet {own ref C : String} {T : u_T} {N idx c j : Nat} (hc : c < 11) (hz : zcl[c]? = some (C, T, N)) (hj : j < N) (hin : ∀ w ∈ u_ws C T N, w ∈ lw_all) (hq : Cond.fieldLink own idx ref (T j).2.1 (T j).2.2.1 ∈ lw_all) (hs : ref = (T j).1 ∨ Cond.sameField ref (T j).1 (T j).2.1 (T j).2.2.1 ∈ lw_all) : GetRow own idx c j := by
  intro k nm cc ret fr lo K pc L st a μ hd hk kk
  obtain ⟨p, l, e, R, s, m, args, below, meth, cd, Q, Z, nx0, sn0, NX, SN⟩ := k
  obtain ⟨hx, hb, hown, hts, hKK, hKS, hlk, hnm, hrt, hR1, hR2, hR3, hR4⟩ := K
  refine ⟨kk.1, fun H locs ls hH hF h0 h1 hl => ?_⟩
  obtain ⟨hb0, r, hr, cell, q1, q2, q3, q4⟩ := hH.1 a c hk hc
  have hr : r = (C, T, N) := Option.some.inj (hr.symm.trans hz)
  subst hr
  obtain ⟨hS, hfc, kC, hkC, hkind⟩ := hKK.1.1 c _ hz
  obtain ⟨cf, kf, fi, f, hi, hsl⟩ := hS j hj
  have hi' : s.fieldFound? ref (T j).2.1 (T j).2.2.1 = some (cf, kf, fi, f) := by
    rcases hs with rfl | hs
    · exact hi
    · exact u_same (hts _ hs) _ hi
  refine W.getf hx hb hown (hts _ hq) hi' (u_facts hfc hkC (u_lays (fun w h => hts w h) hin hj) hi).1 q1 (by rw [q3]; exact fun h => by cases h) (v := fd μ c j a) ?_ rfl rfl hd (kk.2 H locs ls hH hF h0 h1 hl)
  rw [hsl]
  exact q4 j hj
theorem mkGetN {own C host : String} {T : u_T} {N idx c j : Nat} (hc : c < 11) (hz : zcl[c]? = some (C, T, N)) (hj : j < N) (hin : ∀ w ∈ u_ws C T N, w ∈ lw_all) (hq : ((own, idx, (T j).1, (T j).2.1, (T j).2.2.1, host) : zNFq) ∈ zNF) : GetRow own idx c j := by
  intro k nm cc ret fr lo K pc L st a μ hd hk kk
  obtain ⟨p, l, e, R, s, m, args, below, meth, cd, Q, Z, nx0, sn0, NX, SN⟩ := k
  obtain ⟨hx, hb, hown, hts, hKK, hKS, hlk, hnm, hrt, hR1, hR2, hR3, hR4⟩ := K
  refine ⟨kk.1, fun H locs ls hH hF h0 h1 hl => ?_⟩
  obtain ⟨hb0, r, hr, cell, q1, q2, q3, q4⟩ := hH.1 a c hk hc
  have hr : r = (C, T, N) := Option.some.inj (hr.symm.trans hz)
  subst hr
  obtain ⟨hS, hfc, kC, hkC, hkind⟩ := hKK.1.1 c _ hz
  obtain ⟨cf, kf, fi, f, hi, hsl⟩ := hS j hj
  refine va_Wgetf hx hb hown (va_Nw.use (A := args) rfl (hKK.2.1 _ hq)) hi (u_facts hfc hkC (u_lays (fun w h => hts w h) hin hj) hi).1 q1 (by rw [q3]; exact fun h => by cases h) (v := fd μ c j a) ?_ rfl rfl hd (kk.2 H locs ls hH hF h0 h1 hl)
  rw [hsl]
  exact q4 j hj
def PutRow (own nm : String) (idx c j : Nat) : Prop := ∀ {k : Kt} {cc : ByteArray} {ret : Option FieldType} {fr lo : Nat}, Ctx k own nm cc ret fr lo → ∀ {pc : Nat} {L st : List Value} {a : Nat} {μ : Mm} {v : Value}, decode cc pc = .ok (.putfield idx, 3) → kd μ a = c + 1 → narrow (zdt c j) v = v → fits (zdt c j) v = true → Go k (pc + 3) L st (setF μ c j a v) → Go k pc L (v :: .ref a :: st) μ
theorem mkPut {own nm ref C : String} {T : u_T} {N idx c j : Nat} (hc : c < 11) (hz : zcl[c]? = some (C, T, N)) (hj : j < N) (hin : ∀ w ∈ u_ws C T N, w ∈ lw_all) (hty : ∀ k, k < N → parseFieldDescriptor (T k).2.2.1 = some (zdt c k)) (hnm : ∀ a, a < N → ∀ b, b < N → a ≠ b → (T a).2.1 ≠ (T b).2.1) (hfin : (T j).2.2.2 = false) (hq : Cond.fieldLink own idx ref (T j).2.1 (T j).2.2.1 ∈ lw_all) (hs : ref = (T j).1 ∨ Cond.sameField ref (T j).1 (T j).2.1 (T j).2.2.1 ∈ lw_all) : PutRow own nm idx c j := by
  intro k cc ret fr lo K pc L st a μ v hd hk hn hfit kk
  obtain ⟨p, l, e, R, s, m, args, below, meth, cd, Q, Z, nx0, sn0, NX, SN⟩ := k
  obtain ⟨hx, hb, hown, hts, hKK, hKS, hlk, hnm', hrt, hR1, hR2, hR3, hR4⟩ := K
  refine ⟨kk.1, fun H locs ls hH hF h0 h1 hl => ?_⟩
  have hap := va_apart (own := own) (fun w h => hts w h) hin (zdt c) hty hnm hKK.1 hz
  obtain ⟨hb0, r, hr, cell, q1, q2, q3, q4⟩ := hH.1 a c hk hc
  have hr : r = (C, T, N) := Option.some.inj (hr.symm.trans hz)
  subst hr
  obtain ⟨hS, hfc, kC, hkC, hkind⟩ := hKK.1.1 c _ hz
  obtain ⟨cf, kf, fi, f, hi, hsl⟩ := hS j hj
  have hi' : s.fieldFound? ref (T j).2.1 (T j).2.2.1 = some (cf, kf, fi, f) := by
    rcases hs with rfl | hs
    · exact hi
    · exact u_same (hts _ hs) _ hi
  have hlay := hts _ (hin _ (u_in_lay hj))
  unfold u_lay at hlay
  rw [if_neg (by rw [hfin]; decide)] at hlay
  have hst := (u_facts hfc hkC (u_lays (fun w h => hts w h) hin hj) hi).1
  have h6 := u_store hfc hkC hkind hlay hi (hty j hj) hn hfit
  refine W.putK hx hb (f := f) ⟨hown, hts _ hq, ⟨_, _, _, hi'⟩, hst⟩ (by rw [q2]; exact h6) q1 q3 (by rw [hsl]; exact k2_hasslot (q4 j hj)) rfl rfl hd fun H' e1 e2 e3 => ?_
  rw [hsl] at e1 ⊢
  exact kk.2 H' _ ls (hH.sF hk hc hz ⟨_, e1, q2, q3, t_set q4 hap hj v⟩ e3) (hF.put e2 e3 hb0) h0 h1 hl
theorem mkPutN {own nm C host : String} {T : u_T} {N idx c j : Nat} (hc : c < 11) (hz : zcl[c]? = some (C, T, N)) (hj : j < N) (hin : ∀ w ∈ u_ws C T N, w ∈ lw_all) (hty : ∀ k, k < N → parseFieldDescriptor (T k).2.2.1 = some (zdt c k)) (hnm : ∀ a, a < N → ∀ b, b < N → a ≠ b → (T a).2.1 ≠ (T b).2.1) (hfin : (T j).2.2.2 = false) (hq : ((own, idx, (T j).1, (T j).2.1, (T j).2.2.1, host) : zNFq) ∈ zNF) : PutRow own nm idx c j := by
  intro k cc ret fr lo K pc L st a μ v hd hk hn hfit kk
  obtain ⟨p, l, e, R, s, m, args, below, meth, cd, Q, Z, nx0, sn0, NX, SN⟩ := k
  obtain ⟨hx, hb, hown, hts, hKK, hKS, hlk, hnm', hrt, hR1, hR2, hR3, hR4⟩ := K
  refine ⟨kk.1, fun H locs ls hH hF h0 h1 hl => ?_⟩
  have hap := va_apart (own := own) (fun w h => hts w h) hin (zdt c) hty hnm hKK.1 hz
  obtain ⟨hb0, r, hr, cell, q1, q2, q3, q4⟩ := hH.1 a c hk hc
  have hr : r = (C, T, N) := Option.some.inj (hr.symm.trans hz)
  subst hr
  obtain ⟨hS, hfc, kC, hkC, hkind⟩ := hKK.1.1 c _ hz
  obtain ⟨cf, kf, fi, f, hi, hsl⟩ := hS j hj
  have hlay := hts _ (hin _ (u_in_lay hj))
  unfold u_lay at hlay
  rw [if_neg (by rw [hfin]; decide)] at hlay
  have hst := (u_facts hfc hkC (u_lays (fun w h => hts w h) hin hj) hi).1
  have h6 := u_store hfc hkC hkind hlay hi (hty j hj) hn hfit
  refine va_WputK hx hb (f := f) hown (va_Nw.use (A := args) rfl (hKK.2.1 _ hq)) hi hst (by rw [q2]; exact h6) q1 q3 (by rw [hsl]; exact k2_hasslot (q4 j hj)) rfl rfl hd fun H' e1 e2 e3 => ?_
  rw [hsl] at e1 ⊢
  exact kk.2 H' _ ls (hH.sF hk hc hz ⟨_, e1, q2, q3, t_set q4 hap hj v⟩ e3) (hF.put e2 e3 hb0) h0 h1 hl
/-- a final field, in its class's constructor -/
theorem mkPutF {own C : String} {T : u_T} {N idx c j : Nat} (hc : c < 11) (hz : zcl[c]? = some (C, T, N)) (hj : j < N) (hin : ∀ w ∈ u_ws C T N, w ∈ lw_all) (hty : ∀ k, k < N → parseFieldDescriptor (T k).2.2.1 = some (zdt c k)) (hnm : ∀ a, a < N → ∀ b, b < N → a ≠ b → (T a).2.1 ≠ (T b).2.1) (hfin : (T j).2.2.2 = true) (hdecl : (T j).1 = own) (hq : Cond.fieldLink own idx (T j).1 (T j).2.1 (T j).2.2.1 ∈ lw_all) : PutRow own "<init>" idx c j := by
  intro k cc ret fr lo K pc L st a μ v hd hk hn hfit kk
  obtain ⟨p, l, e, R, s, m, args, below, meth, cd, Q, Z, nx0, sn0, NX, SN⟩ := k
  obtain ⟨hx, hb, hown, hts, hKK, hKS, hlk, hnm', hrt, hR1, hR2, hR3, hR4⟩ := K
  refine ⟨kk.1, fun H locs ls hH hF h0 h1 hl => ?_⟩
  have hap := va_apart (own := own) (fun w h => hts w h) hin (zdt c) hty hnm hKK.1 hz
  obtain ⟨hb0, r, hr, cell, q1, q2, q3, q4⟩ := hH.1 a c hk hc
  have hr : r = (C, T, N) := Option.some.inj (hr.symm.trans hz)
  subst hr
  obtain ⟨hS, hfc, kC, hkC, hkind⟩ := hKK.1.1 c _ hz
  obtain ⟨cf, kf, fi, f, hi, hsl⟩ := hS j hj
  have hlay := hts _ (hin _ (u_in_lay hj))
  unfold u_lay at hlay
  rw [if_pos hfin] at hlay
  have hst := (u_facts hfc hkC (u_lays (fun w h => hts w h) hin hj) hi).1
  have hcf : m.cls = cf := by
    obtain ⟨_, _, c', _, _, _, -, -, hf', -, -, -, hown2, -⟩ := Cond.laysFinal_spec hlay
    have e1 : c' = cf := by have := hi.symm.trans hf'; simp at this; exact this.1.symm
    rw [hdecl] at hown2
    rw [← e1]; exact Option.some.inj (hown.symm.trans hown2)
  have h6 := u_fits hfc hkC hkind (Or.inr hlay) hi (hty j hj) hn hfit
  refine W.putFinK hx hb hown (hts _ hq) hi hst hcf hnm' (by rw [q2]; exact h6) q1 q3 (by rw [hsl]; exact k2_hasslot (q4 j hj)) rfl rfl hd fun H' e1 e2 e3 => ?_
  rw [hsl] at e1 ⊢
  exact kk.2 H' _ ls (hH.sF hk hc hz ⟨_, e1, q2, q3, t_set q4 hap hj v⟩ e3) (hF.put e2 e3 hb0) h0 h1 hl
/-! arrays -/
def zin (i : Int32) (n : Nat) : Bool := decide (0 ≤ i) && decide (i.toNatClampNeg < n)
theorem zin_spec {i : Int32} {n : Nat} (h : zin i n = true) : ¬ (i < 0 ∨ n ≤ i.toNatClampNeg) := by
  simp only [zin, Bool.and_eq_true, decide_eq_true_eq] at h
  rintro (h1 | h1)
  · exact absurd h1 (Int32.not_lt.mpr h.1)
  · omega
def ALRow (t : Nat) (ins : Instr) : Prop := ∀ {k : Kt} {own nm : String} {cc : ByteArray} {ret : Option FieldType} {fr lo : Nat}, Ctx k own nm cc ret fr lo → ∀ {pc : Nat} {L st : List Value} {a : Nat} {i : Int32} {μ : Mm}, decode cc pc = .ok (ins, 1) → kd μ a = 100 + t → zin i (ln μ a) = true → Go k (pc + 1) L (ar μ t a i.toNatClampNeg :: st) μ → Go k pc L (.int i :: .ref a :: st) μ
theorem zK {Z : Zt} {s : State} (hKK : KK Z s) (t : Nat) {q : ClassId × FieldType} (hq : (zty Z)[t]? = some q) : ArrOfT s q.1 q.2 ∧ va_RA s q.1 q.2 := hKK.1.2 t q hq
def ALNRow (t : Nat) : Prop := ∀ {k : Kt} {own nm : String} {cc : ByteArray} {ret : Option FieldType} {fr lo : Nat}, Ctx k own nm cc ret fr lo → ∀ {pc : Nat} {L st : List Value} {a : Nat} {μ : Mm}, decode cc pc = .ok (.arraylength, 1) → kd μ a = 100 + t → Go k (pc + 1) L (.int (ln μ a).toInt32 :: st) μ → Go k pc L (.ref a :: st) μ
/-- what a store into an array of a type makes of a value; none: it can't be stored -/
def cvA (t : Nat) (μ : Mm) (v : Value) : Option Value := match t, v with
  | 0, .int x => some (.int x)
  | 1, .long x => some (.long x)
  | 2, .int x => some (narrow .byte (.int x))
  | 3, .int x => some (narrow .boolean (.int x))
  | 4, .ref b => if kd μ b = 2 then some (.ref b) else none
  | 5, .ref b => if kd μ b = 3 then some (.ref b) else none
  | 6, .ref b => if kd μ b = 4 then some (.ref b) else none
  | 9, .ref b => if (List.range 7).any (fun n => sa μ n == b) then some (.ref b) else none
  | 10, .ref b => if kd μ b = 8 ∨ kd μ b = 9 ∨ kd μ b = 10 then some (.ref b) else none
  | _, _ => none
def ASRow (t : Nat) (ins : Instr) : Prop := ∀ {k : Kt} {own nm : String} {cc : ByteArray} {ret : Option FieldType} {fr lo : Nat}, Ctx k own nm cc ret fr lo → ∀ {pc : Nat} {L st : List Value} {a : Nat} {i : Int32} {v v' : Value} {μ : Mm}, decode cc pc = .ok (ins, 1) → kd μ a = 100 + t → zin i (ln μ a) = true → cvA t μ v = some v' → Go k (pc + 1) L st (setA μ t a i.toNatClampNeg v') → Go k pc L (v :: .int i :: .ref a :: st) μ
def NARow (t ln9 : Nat) (ins : Instr) (own : String) : Prop := ∀ {k : Kt} {nm : String} {cc : ByteArray} {ret : Option FieldType} {fr lo : Nat}, Ctx k own nm cc ret fr lo → ∀ {pc : Nat} {L st : List Value} {n : Int32} {μ : Mm}, decode cc pc = .ok (ins, ln9) → 0 ≤ n → n ≤ 1000000 → Go k (pc + ln9) L (.ref (nx μ) :: st) (newA μ t n.toNatClampNeg) → Go k pc L (.int n :: st) μ
theorem ald_0 : ALRow 0 .iaload := by
  intro k own nm cc ret fr lo K pc L st a i μ hd hk hi kk
  obtain ⟨p, l, e, R, s, m, args, below, meth, cd, Q, Z, nx0, sn0, NX, SN⟩ := k
  obtain ⟨hx, hb, hown, hts, hKK, hKS, hlk, hnm, hrt, hR1, hR2, hR3, hR4⟩ := K
  refine ⟨kk.1, fun H locs ls hH hF h0 h1 hl => ?_⟩
  have hA := (hH.2.1 a 0 hk (by decide)).2
  have hz := zin_spec hi
  exact W.iald (v := ar μ 0 a i.toNatClampNeg) hx hb hA ((zK hKK 0 rfl).1 _ _) (fun q => by cases q) (by rw [arrV_size]; exact hz) (arrV_read _ _ (Nat.not_le.mp fun q => hz (Or.inr q))) rfl rfl hd (kk.2 H locs ls hH hF h0 h1 hl)
theorem aln_0 : ALNRow 0 := by
  intro k own nm cc ret fr lo K pc L st a μ hd hk kk
  obtain ⟨p, l, e, R, s, m, args, below, meth, cd, Q, Z, nx0, sn0, NX, SN⟩ := k
  obtain ⟨hx, hb, hown, hts, hKK, hKS, hlk, hnm, hrt, hR1, hR2, hR3, hR4⟩ := K
  refine ⟨kk.1, fun H locs ls hH hF h0 h1 hl => ?_⟩
  have hA := (hH.2.1 a 0 hk (by decide)).2
  exact W.alen hx hb hA ((zK hKK 0 rfl).1 _ _) (by rw [arrV_size]) rfl rfl hd (kk.2 H locs ls hH hF h0 h1 hl)
theorem ald_1 : ALRow 1 .laload := by
  intro k own nm cc ret fr lo K pc L st a i μ hd hk hi kk
  obtain ⟨p, l, e, R, s, m, args, below, meth, cd, Q, Z, nx0, sn0, NX, SN⟩ := k
  obtain ⟨hx, hb, hown, hts, hKK, hKS, hlk, hnm, hrt, hR1, hR2, hR3, hR4⟩ := K
  refine ⟨kk.1, fun H locs ls hH hF h0 h1 hl => ?_⟩
  have hA := (hH.2.1 a 1 hk (by decide)).2
  have hz := zin_spec hi
  exact W.lald (v := ar μ 1 a i.toNatClampNeg) hx hb hA ((zK hKK 1 rfl).1 _ _) (fun q => by cases q) (by rw [arrV_size]; exact hz) (arrV_read _ _ (Nat.not_le.mp fun q => hz (Or.inr q))) rfl rfl hd (kk.2 H locs ls hH hF h0 h1 hl)
theorem aln_1 : ALNRow 1 := by
  intro k own nm cc ret fr lo K pc L st a μ hd hk kk
  obtain ⟨p, l, e, R, s, m, args, below, meth, cd, Q, Z, nx0, sn0, NX, SN⟩ := k
  obtain ⟨hx, hb, hown, hts, hKK, hKS, hlk, hnm, hrt, hR1, hR2, hR3, hR4⟩ := K
  refine ⟨kk.1, fun H locs ls hH hF h0 h1 hl => ?_⟩
  have hA := (hH.2.1 a 1 hk (by decide)).2
  exact W.alen hx hb hA ((zK hKK 1 rfl).1 _ _) (by rw [arrV_size]) rfl rfl hd (kk.2 H locs ls hH hF h0 h1 hl)
theorem ald_2 : ALRow 2 .baload := by
  intro k own nm cc ret fr lo K pc L st a i μ hd hk hi kk
  obtain ⟨p, l, e, R, s, m, args, below, meth, cd, Q, Z, nx0, sn0, NX, SN⟩ := k
  obtain ⟨hx, hb, hown, hts, hKK, hKS, hlk, hnm, hrt, hR1, hR2, hR3, hR4⟩ := K
  refine ⟨kk.1, fun H locs ls hH hF h0 h1 hl => ?_⟩
  have hA := (hH.2.1 a 2 hk (by decide)).2
  have hz := zin_spec hi
  exact W.bald (v := ar μ 2 a i.toNatClampNeg) hx hb hA ((zK hKK 2 rfl).1 _ _) (fun q => by cases q) (by rw [arrV_size]; exact hz) (arrV_read _ _ (Nat.not_le.mp fun q => hz (Or.inr q))) rfl rfl hd (kk.2 H locs ls hH hF h0 h1 hl)
theorem aln_2 : ALNRow 2 := by
  intro k own nm cc ret fr lo K pc L st a μ hd hk kk
  obtain ⟨p, l, e, R, s, m, args, below, meth, cd, Q, Z, nx0, sn0, NX, SN⟩ := k
  obtain ⟨hx, hb, hown, hts, hKK, hKS, hlk, hnm, hrt, hR1, hR2, hR3, hR4⟩ := K
  refine ⟨kk.1, fun H locs ls hH hF h0 h1 hl => ?_⟩
  have hA := (hH.2.1 a 2 hk (by decide)).2
  exact W.alen hx hb hA ((zK hKK 2 rfl).1 _ _) (by rw [arrV_size]) rfl rfl hd (kk.2 H locs ls hH hF h0 h1 hl)
theorem ald_3 : ALRow 3 .baload := by
  intro k own nm cc ret fr lo K pc L st a i μ hd hk hi kk
  obtain ⟨p, l, e, R, s, m, args, below, meth, cd, Q, Z, nx0, sn0, NX, SN⟩ := k
  obtain ⟨hx, hb, hown, hts, hKK, hKS, hlk, hnm, hrt, hR1, hR2, hR3, hR4⟩ := K
  refine ⟨kk.1, fun H locs ls hH hF h0 h1 hl => ?_⟩
  have hA := (hH.2.1 a 3 hk (by decide)).2
  have hz := zin_spec hi
  exact W.zald (v := ar μ 3 a i.toNatClampNeg) hx hb hA ((zK hKK 3 rfl).1 _ _) (fun q => by cases q) (by rw [arrV_size]; exact hz) (arrV_read _ _ (Nat.not_le.mp fun q => hz (Or.inr q))) rfl rfl hd (kk.2 H locs ls hH hF h0 h1 hl)
theorem aln_3 : ALNRow 3 := by
  intro k own nm cc ret fr lo K pc L st a μ hd hk kk
  obtain ⟨p, l, e, R, s, m, args, below, meth, cd, Q, Z, nx0, sn0, NX, SN⟩ := k
  obtain ⟨hx, hb, hown, hts, hKK, hKS, hlk, hnm, hrt, hR1, hR2, hR3, hR4⟩ := K
  refine ⟨kk.1, fun H locs ls hH hF h0 h1 hl => ?_⟩
  have hA := (hH.2.1 a 3 hk (by decide)).2
  exact W.alen hx hb hA ((zK hKK 3 rfl).1 _ _) (by rw [arrV_size]) rfl rfl hd (kk.2 H locs ls hH hF h0 h1 hl)
theorem ald_4 : ALRow 4 .aaload := by
  intro k own nm cc ret fr lo K pc L st a i μ hd hk hi kk
  obtain ⟨p, l, e, R, s, m, args, below, meth, cd, Q, Z, nx0, sn0, NX, SN⟩ := k
  obtain ⟨hx, hb, hown, hts, hKK, hKS, hlk, hnm, hrt, hR1, hR2, hR3, hR4⟩ := K
  refine ⟨kk.1, fun H locs ls hH hF h0 h1 hl => ?_⟩
  have hA := (hH.2.1 a 4 hk (by decide)).2
  have hz := zin_spec hi
  exact W.aald (v := ar μ 4 a i.toNatClampNeg) (ty := .object "LastSpeakers$Entry") hx hb hA ((zK hKK 4 rfl).1 _ _) rfl (fun q => by cases q) (by rw [arrV_size]; exact hz) (arrV_read _ _ (Nat.not_le.mp fun q => hz (Or.inr q))) rfl rfl hd (kk.2 H locs ls hH hF h0 h1 hl)
theorem aln_4 : ALNRow 4 := by
  intro k own nm cc ret fr lo K pc L st a μ hd hk kk
  obtain ⟨p, l, e, R, s, m, args, below, meth, cd, Q, Z, nx0, sn0, NX, SN⟩ := k
  obtain ⟨hx, hb, hown, hts, hKK, hKS, hlk, hnm, hrt, hR1, hR2, hR3, hR4⟩ := K
  refine ⟨kk.1, fun H locs ls hH hF h0 h1 hl => ?_⟩
  have hA := (hH.2.1 a 4 hk (by decide)).2
  exact W.alen hx hb hA ((zK hKK 4 rfl).1 _ _) (by rw [arrV_size]) rfl rfl hd (kk.2 H locs ls hH hF h0 h1 hl)
theorem ald_5 : ALRow 5 .aaload := by
  intro k own nm cc ret fr lo K pc L st a i μ hd hk hi kk
  obtain ⟨p, l, e, R, s, m, args, below, meth, cd, Q, Z, nx0, sn0, NX, SN⟩ := k
  obtain ⟨hx, hb, hown, hts, hKK, hKS, hlk, hnm, hrt, hR1, hR2, hR3, hR4⟩ := K
  refine ⟨kk.1, fun H locs ls hH hF h0 h1 hl => ?_⟩
  have hA := (hH.2.1 a 5 hk (by decide)).2
  have hz := zin_spec hi
  exact W.aald (v := ar μ 5 a i.toNatClampNeg) (ty := .object "LastSpeakers$Hearing") hx hb hA ((zK hKK 5 rfl).1 _ _) rfl (fun q => by cases q) (by rw [arrV_size]; exact hz) (arrV_read _ _ (Nat.not_le.mp fun q => hz (Or.inr q))) rfl rfl hd (kk.2 H locs ls hH hF h0 h1 hl)
theorem aln_5 : ALNRow 5 := by
  intro k own nm cc ret fr lo K pc L st a μ hd hk kk
  obtain ⟨p, l, e, R, s, m, args, below, meth, cd, Q, Z, nx0, sn0, NX, SN⟩ := k
  obtain ⟨hx, hb, hown, hts, hKK, hKS, hlk, hnm, hrt, hR1, hR2, hR3, hR4⟩ := K
  refine ⟨kk.1, fun H locs ls hH hF h0 h1 hl => ?_⟩
  have hA := (hH.2.1 a 5 hk (by decide)).2
  exact W.alen hx hb hA ((zK hKK 5 rfl).1 _ _) (by rw [arrV_size]) rfl rfl hd (kk.2 H locs ls hH hF h0 h1 hl)
theorem ald_6 : ALRow 6 .aaload := by
  intro k own nm cc ret fr lo K pc L st a i μ hd hk hi kk
  obtain ⟨p, l, e, R, s, m, args, below, meth, cd, Q, Z, nx0, sn0, NX, SN⟩ := k
  obtain ⟨hx, hb, hown, hts, hKK, hKS, hlk, hnm, hrt, hR1, hR2, hR3, hR4⟩ := K
  refine ⟨kk.1, fun H locs ls hH hF h0 h1 hl => ?_⟩
  have hA := (hH.2.1 a 6 hk (by decide)).2
  have hz := zin_spec hi
  exact W.aald (v := ar μ 6 a i.toNatClampNeg) (ty := .object "LastSpeakers$Image") hx hb hA ((zK hKK 6 rfl).1 _ _) rfl (fun q => by cases q) (by rw [arrV_size]; exact hz) (arrV_read _ _ (Nat.not_le.mp fun q => hz (Or.inr q))) rfl rfl hd (kk.2 H locs ls hH hF h0 h1 hl)
theorem aln_6 : ALNRow 6 := by
  intro k own nm cc ret fr lo K pc L st a μ hd hk kk
  obtain ⟨p, l, e, R, s, m, args, below, meth, cd, Q, Z, nx0, sn0, NX, SN⟩ := k
  obtain ⟨hx, hb, hown, hts, hKK, hKS, hlk, hnm, hrt, hR1, hR2, hR3, hR4⟩ := K
  refine ⟨kk.1, fun H locs ls hH hF h0 h1 hl => ?_⟩
  have hA := (hH.2.1 a 6 hk (by decide)).2
  exact W.alen hx hb hA ((zK hKK 6 rfl).1 _ _) (by rw [arrV_size]) rfl rfl hd (kk.2 H locs ls hH hF h0 h1 hl)
theorem ald_7 : ALRow 7 .aaload := by
  intro k own nm cc ret fr lo K pc L st a i μ hd hk hi kk
  obtain ⟨p, l, e, R, s, m, args, below, meth, cd, Q, Z, nx0, sn0, NX, SN⟩ := k
  obtain ⟨hx, hb, hown, hts, hKK, hKS, hlk, hnm, hrt, hR1, hR2, hR3, hR4⟩ := K
  refine ⟨kk.1, fun H locs ls hH hF h0 h1 hl => ?_⟩
  have hA := (hH.2.1 a 7 hk (by decide)).2
  have hz := zin_spec hi
  exact W.aald (v := ar μ 7 a i.toNatClampNeg) (ty := .array .int) hx hb hA ((zK hKK 7 rfl).1 _ _) rfl (fun q => by cases q) (by rw [arrV_size]; exact hz) (arrV_read _ _ (Nat.not_le.mp fun q => hz (Or.inr q))) rfl rfl hd (kk.2 H locs ls hH hF h0 h1 hl)
theorem aln_7 : ALNRow 7 := by
  intro k own nm cc ret fr lo K pc L st a μ hd hk kk
  obtain ⟨p, l, e, R, s, m, args, below, meth, cd, Q, Z, nx0, sn0, NX, SN⟩ := k
  obtain ⟨hx, hb, hown, hts, hKK, hKS, hlk, hnm, hrt, hR1, hR2, hR3, hR4⟩ := K
  refine ⟨kk.1, fun H locs ls hH hF h0 h1 hl => ?_⟩
  have hA := (hH.2.1 a 7 hk (by decide)).2
  exact W.alen hx hb hA ((zK hKK 7 rfl).1 _ _) (by rw [arrV_size]) rfl rfl hd (kk.2 H locs ls hH hF h0 h1 hl)
theorem ald_8 : ALRow 8 .aaload := by
  intro k own nm cc ret fr lo K pc L st a i μ hd hk hi kk
  obtain ⟨p, l, e, R, s, m, args, below, meth, cd, Q, Z, nx0, sn0, NX, SN⟩ := k
  obtain ⟨hx, hb, hown, hts, hKK, hKS, hlk, hnm, hrt, hR1, hR2, hR3, hR4⟩ := K
  refine ⟨kk.1, fun H locs ls hH hF h0 h1 hl => ?_⟩
  have hA := (hH.2.1 a 8 hk (by decide)).2
  have hz := zin_spec hi
  exact W.aald (v := ar μ 8 a i.toNatClampNeg) (ty := .array (.array .int)) hx hb hA ((zK hKK 8 rfl).1 _ _) rfl (fun q => by cases q) (by rw [arrV_size]; exact hz) (arrV_read _ _ (Nat.not_le.mp fun q => hz (Or.inr q))) rfl rfl hd (kk.2 H locs ls hH hF h0 h1 hl)
theorem aln_8 : ALNRow 8 := by
  intro k own nm cc ret fr lo K pc L st a μ hd hk kk
  obtain ⟨p, l, e, R, s, m, args, below, meth, cd, Q, Z, nx0, sn0, NX, SN⟩ := k
  obtain ⟨hx, hb, hown, hts, hKK, hKS, hlk, hnm, hrt, hR1, hR2, hR3, hR4⟩ := K
  refine ⟨kk.1, fun H locs ls hH hF h0 h1 hl => ?_⟩
  have hA := (hH.2.1 a 8 hk (by decide)).2
  exact W.alen hx hb hA ((zK hKK 8 rfl).1 _ _) (by rw [arrV_size]) rfl rfl hd (kk.2 H locs ls hH hF h0 h1 hl)
theorem ald_9 : ALRow 9 .aaload := by
  intro k own nm cc ret fr lo K pc L st a i μ hd hk hi kk
  obtain ⟨p, l, e, R, s, m, args, below, meth, cd, Q, Z, nx0, sn0, NX, SN⟩ := k
  obtain ⟨hx, hb, hown, hts, hKK, hKS, hlk, hnm, hrt, hR1, hR2, hR3, hR4⟩ := K
  refine ⟨kk.1, fun H locs ls hH hF h0 h1 hl => ?_⟩
  have hA := (hH.2.1 a 9 hk (by decide)).2
  have hz := zin_spec hi
  exact W.aald (v := ar μ 9 a i.toNatClampNeg) (ty := .object "java/lang/String") hx hb hA ((zK hKK 9 rfl).1 _ _) rfl (fun q => by cases q) (by rw [arrV_size]; exact hz) (arrV_read _ _ (Nat.not_le.mp fun q => hz (Or.inr q))) rfl rfl hd (kk.2 H locs ls hH hF h0 h1 hl)
theorem aln_9 : ALNRow 9 := by
  intro k own nm cc ret fr lo K pc L st a μ hd hk kk
  obtain ⟨p, l, e, R, s, m, args, below, meth, cd, Q, Z, nx0, sn0, NX, SN⟩ := k
  obtain ⟨hx, hb, hown, hts, hKK, hKS, hlk, hnm, hrt, hR1, hR2, hR3, hR4⟩ := K
  refine ⟨kk.1, fun H locs ls hH hF h0 h1 hl => ?_⟩
  have hA := (hH.2.1 a 9 hk (by decide)).2
  exact W.alen hx hb hA ((zK hKK 9 rfl).1 _ _) (by rw [arrV_size]) rfl rfl hd (kk.2 H locs ls hH hF h0 h1 hl)
theorem ald_10 : ALRow 10 .aaload := by
  intro k own nm cc ret fr lo K pc L st a i μ hd hk hi kk
  obtain ⟨p, l, e, R, s, m, args, below, meth, cd, Q, Z, nx0, sn0, NX, SN⟩ := k
  obtain ⟨hx, hb, hown, hts, hKK, hKS, hlk, hnm, hrt, hR1, hR2, hR3, hR4⟩ := K
  refine ⟨kk.1, fun H locs ls hH hF h0 h1 hl => ?_⟩
  have hA := (hH.2.1 a 10 hk (by decide)).2
  have hz := zin_spec hi
  exact W.aald (v := ar μ 10 a i.toNatClampNeg) (ty := .object "java/lang/Object") hx hb hA ((zK hKK 10 rfl).1 _ _) rfl (fun q => by cases q) (by rw [arrV_size]; exact hz) (arrV_read _ _ (Nat.not_le.mp fun q => hz (Or.inr q))) rfl rfl hd (kk.2 H locs ls hH hF h0 h1 hl)
theorem aln_10 : ALNRow 10 := by
  intro k own nm cc ret fr lo K pc L st a μ hd hk kk
  obtain ⟨p, l, e, R, s, m, args, below, meth, cd, Q, Z, nx0, sn0, NX, SN⟩ := k
  obtain ⟨hx, hb, hown, hts, hKK, hKS, hlk, hnm, hrt, hR1, hR2, hR3, hR4⟩ := K
  refine ⟨kk.1, fun H locs ls hH hF h0 h1 hl => ?_⟩
  have hA := (hH.2.1 a 10 hk (by decide)).2
  exact W.alen hx hb hA ((zK hKK 10 rfl).1 _ _) (by rw [arrV_size]) rfl rfl hd (kk.2 H locs ls hH hF h0 h1 hl)
theorem ald_11 : ALRow 11 .baload := by
  intro k own nm cc ret fr lo K pc L st a i μ hd hk hi kk
  obtain ⟨p, l, e, R, s, m, args, below, meth, cd, Q, Z, nx0, sn0, NX, SN⟩ := k
  obtain ⟨hx, hb, hown, hts, hKK, hKS, hlk, hnm, hrt, hR1, hR2, hR3, hR4⟩ := K
  refine ⟨kk.1, fun H locs ls hH hF h0 h1 hl => ?_⟩
  have hA := (hH.2.1 a 11 hk (by decide)).2
  have hz := zin_spec hi
  exact W.bald (v := ar μ 11 a i.toNatClampNeg) hx hb hA ((zK hKK 11 rfl).1 _ _) (fun q => by cases q) (by rw [arrV_size]; exact hz) (arrV_read _ _ (Nat.not_le.mp fun q => hz (Or.inr q))) rfl rfl hd (kk.2 H locs ls hH hF h0 h1 hl)
theorem aln_11 : ALNRow 11 := by
  intro k own nm cc ret fr lo K pc L st a μ hd hk kk
  obtain ⟨p, l, e, R, s, m, args, below, meth, cd, Q, Z, nx0, sn0, NX, SN⟩ := k
  obtain ⟨hx, hb, hown, hts, hKK, hKS, hlk, hnm, hrt, hR1, hR2, hR3, hR4⟩ := K
  refine ⟨kk.1, fun H locs ls hH hF h0 h1 hl => ?_⟩
  have hA := (hH.2.1 a 11 hk (by decide)).2
  exact W.alen hx hb hA ((zK hKK 11 rfl).1 _ _) (by rw [arrV_size]) rfl rfl hd (kk.2 H locs ls hH hF h0 h1 hl)
theorem ald_12 : ALRow 12 .iaload := by
  intro k own nm cc ret fr lo K pc L st a i μ hd hk hi kk
  obtain ⟨p, l, e, R, s, m, args, below, meth, cd, Q, Z, nx0, sn0, NX, SN⟩ := k
  obtain ⟨hx, hb, hown, hts, hKK, hKS, hlk, hnm, hrt, hR1, hR2, hR3, hR4⟩ := K
  refine ⟨kk.1, fun H locs ls hH hF h0 h1 hl => ?_⟩
  obtain ⟨x1, x2, x3⟩ := hH.2.2.2.2.2 a hk
  subst x1
  have hz := zin_spec hi
  have hlt : i.toNatClampNeg < zL Z := by rw [← x2]; exact Nat.not_le.mp fun q => hz (Or.inr q)
  obtain ⟨vF, -, -, -, -, hb9, hX⟩ := hKS
  obtain ⟨scr, c1, c2, c3, c4, c5⟩ := hX.kept (hF.2.1 _ hb9)
  have k9 := kk.2 H locs ls hH hF h0 h1 hl
  rw [x3 _ hlt] at k9
  exact W.iald (v := .int (zx Z i.toNatClampNeg)) hx hb c1 c2 c3 (by rw [c4, ← x2]; exact hz) (c5 _ hlt) rfl rfl hd k9
theorem aln_12 : ALNRow 12 := by
  intro k own nm cc ret fr lo K pc L st a μ hd hk kk
  obtain ⟨p, l, e, R, s, m, args, below, meth, cd, Q, Z, nx0, sn0, NX, SN⟩ := k
  obtain ⟨hx, hb, hown, hts, hKK, hKS, hlk, hnm, hrt, hR1, hR2, hR3, hR4⟩ := K
  refine ⟨kk.1, fun H locs ls hH hF h0 h1 hl => ?_⟩
  obtain ⟨x1, x2, x3⟩ := hH.2.2.2.2.2 a hk
  subst x1
  obtain ⟨vF, -, -, -, -, hb9, hX⟩ := hKS
  obtain ⟨scr, c1, c2, c3, c4, c5⟩ := hX.kept (hF.2.1 _ hb9)
  exact W.alen hx hb c1 c2 (by rw [c4, x2]) rfl rfl hd (kk.2 H locs ls hH hF h0 h1 hl)
theorem ast_0 : ASRow 0 .iastore := by
  intro k own nm cc ret fr lo K pc L st a i v v' μ hd hk hi hv kk
  obtain ⟨p, l, e, R, s, m, args, below, meth, cd, Q, Z, nx0, sn0, NX, SN⟩ := k
  obtain ⟨hx, hb, hown, hts, hKK, hKS, hlk, hnm, hrt, hR1, hR2, hR3, hR4⟩ := K
  refine ⟨kk.1, fun H locs ls hH hF h0 h1 hl => ?_⟩
  obtain ⟨hb0, hA⟩ := hH.2.1 a 0 hk (by decide)
  have hz := zin_spec hi
  obtain ⟨x, rfl⟩ : ∃ x, v = .int x := by cases v <;> first | exact ⟨_, rfl⟩ | cases hv
  obtain rfl : (.int x : Value) = v' := Option.some.inj hv
  refine W.iast hx hb hA ((zK hKK 0 rfl).1 _ _) (fun q => by cases q) (by rw [arrV_size]; exact hz) rfl rfl hd fun H1 e1 e2 e3 => ?_
  rw [arrV_store] at e1
  exact kk.2 H1 _ ls (hH.sA hk (by decide) e1 e3) (hF.put e2 e3 (hb0 (by decide))) h0 h1 hl
theorem ast_1 : ASRow 1 .lastore := by
  intro k own nm cc ret fr lo K pc L st a i v v' μ hd hk hi hv kk
  obtain ⟨p, l, e, R, s, m, args, below, meth, cd, Q, Z, nx0, sn0, NX, SN⟩ := k
  obtain ⟨hx, hb, hown, hts, hKK, hKS, hlk, hnm, hrt, hR1, hR2, hR3, hR4⟩ := K
  refine ⟨kk.1, fun H locs ls hH hF h0 h1 hl => ?_⟩
  obtain ⟨hb0, hA⟩ := hH.2.1 a 1 hk (by decide)
  have hz := zin_spec hi
  obtain ⟨x, rfl⟩ : ∃ x, v = .long x := by cases v <;> first | exact ⟨_, rfl⟩ | cases hv
  obtain rfl : (.long x : Value) = v' := Option.some.inj hv
  refine W.last hx hb hA ((zK hKK 1 rfl).1 _ _) (fun q => by cases q) (by rw [arrV_size]; exact hz) rfl rfl hd fun H1 e1 e2 e3 => ?_
  rw [arrV_store] at e1
  exact kk.2 H1 _ ls (hH.sA hk (by decide) e1 e3) (hF.put e2 e3 (hb0 (by decide))) h0 h1 hl
theorem ast_2 : ASRow 2 .bastore := by
  intro k own nm cc ret fr lo K pc L st a i v v' μ hd hk hi hv kk
  obtain ⟨p, l, e, R, s, m, args, below, meth, cd, Q, Z, nx0, sn0, NX, SN⟩ := k
  obtain ⟨hx, hb, hown, hts, hKK, hKS, hlk, hnm, hrt, hR1, hR2, hR3, hR4⟩ := K
  refine ⟨kk.1, fun H locs ls hH hF h0 h1 hl => ?_⟩
  obtain ⟨hb0, hA⟩ := hH.2.1 a 2 hk (by decide)
  have hz := zin_spec hi
  obtain ⟨x, rfl⟩ : ∃ x, v = .int x := by cases v <;> first | exact ⟨_, rfl⟩ | cases hv
  obtain rfl : (narrow .byte (.int x) : Value) = v' := Option.some.inj hv
  refine W.bast hx hb hA ((zK hKK 2 rfl).1 _ _) (fun q => by cases q) (by rw [arrV_size]; exact hz) rfl rfl hd fun H1 e1 e2 e3 => ?_
  rw [arrV_store] at e1
  exact kk.2 H1 _ ls (hH.sA hk (by decide) e1 e3) (hF.put e2 e3 (hb0 (by decide))) h0 h1 hl
theorem ast_3 : ASRow 3 .bastore := by
  intro k own nm cc ret fr lo K pc L st a i v v' μ hd hk hi hv kk
  obtain ⟨p, l, e, R, s, m, args, below, meth, cd, Q, Z, nx0, sn0, NX, SN⟩ := k
  obtain ⟨hx, hb, hown, hts, hKK, hKS, hlk, hnm, hrt, hR1, hR2, hR3, hR4⟩ := K
  refine ⟨kk.1, fun H locs ls hH hF h0 h1 hl => ?_⟩
  obtain ⟨hb0, hA⟩ := hH.2.1 a 3 hk (by decide)
  have hz := zin_spec hi
  obtain ⟨x, rfl⟩ : ∃ x, v = .int x := by cases v <;> first | exact ⟨_, rfl⟩ | cases hv
  obtain rfl : (narrow .boolean (.int x) : Value) = v' := Option.some.inj hv
  refine W.zast hx hb hA ((zK hKK 3 rfl).1 _ _) (fun q => by cases q) (by rw [arrV_size]; exact hz) rfl rfl hd fun H1 e1 e2 e3 => ?_
  rw [arrV_store] at e1
  exact kk.2 H1 _ ls (hH.sA hk (by decide) e1 e3) (hF.put e2 e3 (hb0 (by decide))) h0 h1 hl
theorem ast_4 : ASRow 4 .aastore := by
  intro k own nm cc ret fr lo K pc L st a i v v' μ hd hk hi hv kk
  obtain ⟨p, l, e, R, s, m, args, below, meth, cd, Q, Z, nx0, sn0, NX, SN⟩ := k
  obtain ⟨hx, hb, hown, hts, hKK, hKS, hlk, hnm, hrt, hR1, hR2, hR3, hR4⟩ := K
  refine ⟨kk.1, fun H locs ls hH hF h0 h1 hl => ?_⟩
  obtain ⟨hb0, hA⟩ := hH.2.1 a 4 hk (by decide)
  have hz := zin_spec hi
  have hlt : i.toNatClampNeg < ln μ a := Nat.not_le.mp fun q => hz (Or.inr q)
  obtain ⟨b, rfl⟩ : ∃ x, v = .ref x := by cases v <;> first | exact ⟨_, rfl⟩ | cases hv
  have hv : (if kd μ b = 2 then some (Value.ref b) else none) = some v' := hv
  split at hv
  case isFalse => cases hv
  rename_i hkb
  obtain rfl := Option.some.inj hv
  obtain ⟨-, r, hr, cellV, g1, g2, g3, -⟩ := hH.1 b 1 hkb (by decide)
  have hcls := (hKK.1.1 1 _ rfl).2
  obtain ⟨kA, comp, k1, k2, k3, -⟩ := (zK hKK 4 rfl).2
  have hcomp : comp = (zD Z).1 1 := Option.some.inj (k3.symm.trans hcls.1)
  subst hcomp
  obtain ⟨kC, hkC, -⟩ := hcls.2
  refine W.aast hx hb hA (fun q h => by cases h) (fun h => by cases h) k1 k2 rfl hkC ⟨fun q => hz (Or.inl q), by rw [arrV_size]; exact hlt⟩ g1 (fun q h => by rw [g3] at h; cases h) (by rw [g2]; exact hkC) (by rw [g2]; exact va_assign hcls) rfl rfl hd fun H1 e1 e2 e3 => ?_
  rw [arrV_store] at e1
  exact kk.2 H1 _ ls (hH.sA hk (by decide) e1 e3) (hF.put e2 e3 (hb0 (by decide))) h0 h1 hl
theorem ast_5 : ASRow 5 .aastore := by
  intro k own nm cc ret fr lo K pc L st a i v v' μ hd hk hi hv kk
  obtain ⟨p, l, e, R, s, m, args, below, meth, cd, Q, Z, nx0, sn0, NX, SN⟩ := k
  obtain ⟨hx, hb, hown, hts, hKK, hKS, hlk, hnm, hrt, hR1, hR2, hR3, hR4⟩ := K
  refine ⟨kk.1, fun H locs ls hH hF h0 h1 hl => ?_⟩
  obtain ⟨hb0, hA⟩ := hH.2.1 a 5 hk (by decide)
  have hz := zin_spec hi
  have hlt : i.toNatClampNeg < ln μ a := Nat.not_le.mp fun q => hz (Or.inr q)
  obtain ⟨b, rfl⟩ : ∃ x, v = .ref x := by cases v <;> first | exact ⟨_, rfl⟩ | cases hv
  have hv : (if kd μ b = 3 then some (Value.ref b) else none) = some v' := hv
  split at hv
  case isFalse => cases hv
  rename_i hkb
  obtain rfl := Option.some.inj hv
  obtain ⟨-, r, hr, cellV, g1, g2, g3, -⟩ := hH.1 b 2 hkb (by decide)
  have hcls := (hKK.1.1 2 _ rfl).2
  obtain ⟨kA, comp, k1, k2, k3, -⟩ := (zK hKK 5 rfl).2
  have hcomp : comp = (zD Z).1 2 := Option.some.inj (k3.symm.trans hcls.1)
  subst hcomp
  obtain ⟨kC, hkC, -⟩ := hcls.2
  refine W.aast hx hb hA (fun q h => by cases h) (fun h => by cases h) k1 k2 rfl hkC ⟨fun q => hz (Or.inl q), by rw [arrV_size]; exact hlt⟩ g1 (fun q h => by rw [g3] at h; cases h) (by rw [g2]; exact hkC) (by rw [g2]; exact va_assign hcls) rfl rfl hd fun H1 e1 e2 e3 => ?_
  rw [arrV_store] at e1
  exact kk.2 H1 _ ls (hH.sA hk (by decide) e1 e3) (hF.put e2 e3 (hb0 (by decide))) h0 h1 hl
theorem ast_6 : ASRow 6 .aastore := by
  intro k own nm cc ret fr lo K pc L st a i v v' μ hd hk hi hv kk
  obtain ⟨p, l, e, R, s, m, args, below, meth, cd, Q, Z, nx0, sn0, NX, SN⟩ := k
  obtain ⟨hx, hb, hown, hts, hKK, hKS, hlk, hnm, hrt, hR1, hR2, hR3, hR4⟩ := K
  refine ⟨kk.1, fun H locs ls hH hF h0 h1 hl => ?_⟩
  obtain ⟨hb0, hA⟩ := hH.2.1 a 6 hk (by decide)
  have hz := zin_spec hi
  have hlt : i.toNatClampNeg < ln μ a := Nat.not_le.mp fun q => hz (Or.inr q)
  obtain ⟨b, rfl⟩ : ∃ x, v = .ref x := by cases v <;> first | exact ⟨_, rfl⟩ | cases hv
  have hv : (if kd μ b = 4 then some (Value.ref b) else none) = some v' := hv
  split at hv
  case isFalse => cases hv
  rename_i hkb
  obtain rfl := Option.some.inj hv
  obtain ⟨-, r, hr, cellV, g1, g2, g3, -⟩ := hH.1 b 3 hkb (by decide)
  have hcls := (hKK.1.1 3 _ rfl).2
  obtain ⟨kA, comp, k1, k2, k3, -⟩ := (zK hKK 6 rfl).2
  have hcomp : comp = (zD Z).1 3 := Option.some.inj (k3.symm.trans hcls.1)
  subst hcomp
  obtain ⟨kC, hkC, -⟩ := hcls.2
  refine W.aast hx hb hA (fun q h => by cases h) (fun h => by cases h) k1 k2 rfl hkC ⟨fun q => hz (Or.inl q), by rw [arrV_size]; exact hlt⟩ g1 (fun q h => by rw [g3] at h; cases h) (by rw [g2]; exact hkC) (by rw [g2]; exact va_assign hcls) rfl rfl hd fun H1 e1 e2 e3 => ?_
  rw [arrV_store] at e1
  exact kk.2 H1 _ ls (hH.sA hk (by decide) e1 e3) (hF.put e2 e3 (hb0 (by decide))) h0 h1 hl
theorem ast_obj {k : Kt} {own nm : String} {cc : ByteArray} {ret : Option FieldType} {fr lo : Nat} (K : Ctx k own nm cc ret fr lo) {pc : Nat} {L st : List Value} {a b c : Nat} {C : String} {T : u_T} {N : Nat} {i : Int32} {μ : Mm} (hd : decode cc pc = .ok (.aastore, 1)) (hk : kd μ a = 100 + 10) (hi : zin i (ln μ a) = true) (hkb : kd μ b = c + 1) (hc : c < 11) (hzc : zcl[c]? = some (C, T, N)) (hca : C ∈ zCA) (kk : Go k (pc + 1) L st (setA μ 10 a i.toNatClampNeg (.ref b))) : Go k pc L (.ref b :: .int i :: .ref a :: st) μ := by
  obtain ⟨p, l, e, R, s, m, args, below, meth, cd, Q, Z, nx0, sn0, NX, SN⟩ := k
  obtain ⟨hx, hb, hown, hts, hKK, hKS, hlk, hnm, hrt, hR1, hR2, hR3, hR4⟩ := K
  refine ⟨kk.1, fun H locs ls hH hF h0 h1 hl => ?_⟩
  obtain ⟨hb0, hA⟩ := hH.2.1 a 10 hk (by decide)
  have hz := zin_spec hi
  have hlt : i.toNatClampNeg < ln μ a := Nat.not_le.mp fun q => hz (Or.inr q)
  obtain ⟨-, r, hr, cellV, g1, g2, g3, -⟩ := hH.1 b c hkb hc
  have hcls := (hKK.1.1 c _ hzc).2
  obtain ⟨kA, comp, k1, k2, k3, -⟩ := (zK hKK 10 rfl).2
  obtain ⟨c0, t0, f1, f2, f3⟩ := Cond.castable_spec (va_Nw.use (A := args) rfl (hKK.2.2.2.1 _ hca))
  obtain ⟨kC, hkC, -⟩ := hcls.2
  have e0 : c0 = (zD Z).1 c := Option.some.inj (f1.symm.trans hcls.1)
  have e1 : t0 = comp := Option.some.inj (f2.symm.trans k3)
  subst e0
  subst e1
  obtain ⟨kT, hkT, -⟩ := Vm.findClass_spec f2
  refine W.aast hx hb hA (fun q h => by cases h) (fun h => by cases h) k1 k2 rfl hkT ⟨fun q => hz (Or.inl q), by rw [arrV_size]; exact hlt⟩ g1 (fun q h => by rw [g3] at h; cases h) (by rw [g2]; exact hkC) (by rw [g2]; exact f3) rfl rfl hd fun H1 e1 e2 e3 => ?_
  rw [arrV_store] at e1
  exact kk.2 H1 _ ls (hH.sA hk (by decide) e1 e3) (hF.put e2 e3 (hb0 (by decide))) h0 h1 hl
theorem ast_10 : ASRow 10 .aastore := by
  intro k own nm cc ret fr lo K pc L st a i v v' μ hd hk hi hv kk
  obtain ⟨b, rfl⟩ : ∃ x, v = .ref x := by cases v <;> first | exact ⟨_, rfl⟩ | cases hv
  have hv : (if kd μ b = 8 ∨ kd μ b = 9 ∨ kd μ b = 10 then some (Value.ref b) else none) = some v' := hv
  split at hv
  case isFalse => cases hv
  rename_i hkb
  obtain rfl := Option.some.inj hv
  rcases hkb with hkb | hkb | hkb
  · exact ast_obj K hd hk hi (c := 7) hkb (by decide) rfl (by decide +kernel) kk
  · exact ast_obj K hd hk hi (c := 8) hkb (by decide) rfl (by decide +kernel) kk
  · exact ast_obj K hd hk hi (c := 9) hkb (by decide) rfl (by decide +kernel) kk
theorem ast_9 : ASRow 9 .aastore := by
  intro k own nm cc ret fr lo K pc L st a i v v' μ hd hk hi hv kk
  obtain ⟨p, l, e, R, s, m, args, below, meth, cd, Q, Z, nx0, sn0, NX, SN⟩ := k
  obtain ⟨hx, hb, hown, hts, hKK, hKS, hlk, hnm, hrt, hR1, hR2, hR3, hR4⟩ := K
  refine ⟨kk.1, fun H locs ls hH hF h0 h1 hl => ?_⟩
  obtain ⟨hb0, hA⟩ := hH.2.1 a 9 hk (by decide)
  have hz := zin_spec hi
  have hlt : i.toNatClampNeg < ln μ a := Nat.not_le.mp fun q => hz (Or.inr q)
  obtain ⟨b, rfl⟩ : ∃ x, v = .ref x := by cases v <;> first | exact ⟨_, rfl⟩ | cases hv
  have hv : (if (List.range 7).any (fun n => sa μ n == b) then some (Value.ref b) else none) = some v' := hv
  split at hv
  case isFalse => cases hv
  rename_i hkb
  obtain rfl := Option.some.inj hv
  obtain ⟨n, hn, hnb⟩ := List.any_eq_true.mp hkb
  have hn7 : n < 7 := List.mem_range.mp hn
  have hnb : sa μ n = b := by simpa using hnb
  obtain ⟨vF, -, hS, -⟩ := hKS
  obtain ⟨cell, g1, g2, g3⟩ := vk_recv hS hn7 (H := H) (locs := locs) ⟨by rw [hF.1]; exact hF.2.2.2, fun q _ hq => hF.2.1 q (Nat.lt_of_not_le hq), hF.2.2.1⟩
  obtain ⟨kA, comp, k1, k2, k3, -⟩ := (zK hKK 9 rfl).2
  have e1 : comp = cell.cls := Option.some.inj (k3.symm.trans g3)
  subst e1
  obtain ⟨kT, hkT, -⟩ := Vm.findClass_spec k3
  rw [← hH.2.2.2.1, hnb] at g1
  refine W.aast hx hb hA (fun q h => by cases h) (fun h => by cases h) k1 k2 rfl hkT ⟨fun q => hz (Or.inl q), by rw [arrV_size]; exact hlt⟩ g1 (fun q h => by rw [h] at g2; cases g2) hkT (va_asg _ _) rfl rfl hd fun H1 e1 e2 e3 => ?_
  rw [arrV_store] at e1
  exact kk.2 H1 _ ls (hH.sA hk (by decide) e1 e3) (hF.put e2 e3 (hb0 (by decide))) h0 h1 hl
