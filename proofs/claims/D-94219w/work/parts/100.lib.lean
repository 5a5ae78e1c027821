set_option maxRecDepth 100000
/-! LAYER 2: the pictures answer alike. Memory, numbers, bits, loops -/
theorem fd_setF (μ : Mm) (c j a : Nat) (v : Value) (c' j' a' : Nat) : fd (setF μ c j a v) c' j' a' = if c' = c ∧ j' = j ∧ a' = a then v else fd μ c' j' a' := rfl
theorem kd_setF (μ : Mm) (c j a : Nat) (v : Value) : kd (setF μ c j a v) = kd μ := rfl
theorem ln_setF (μ : Mm) (c j a : Nat) (v : Value) : ln (setF μ c j a v) = ln μ := rfl
theorem ar_setF (μ : Mm) (c j a : Nat) (v : Value) : ar (setF μ c j a v) = ar μ := rfl
theorem nx_setF (μ : Mm) (c j a : Nat) (v : Value) : nx (setF μ c j a v) = nx μ := rfl
theorem sn_setF (μ : Mm) (c j a : Nat) (v : Value) : sn (setF μ c j a v) = sn μ := rfl
theorem sa_setF (μ : Mm) (c j a : Nat) (v : Value) : sa (setF μ c j a v) = sa μ := rfl
theorem sv_setF (μ : Mm) (c j a : Nat) (v : Value) : sv (setF μ c j a v) = sv μ := rfl
theorem ar_setA (μ : Mm) (t a i : Nat) (v : Value) (t' a' i' : Nat) : ar (setA μ t a i v) t' a' i' = if t' = t ∧ a' = a ∧ i' = i then v else ar μ t' a' i' := rfl
theorem kd_setA (μ : Mm) (t a i : Nat) (v : Value) : kd (setA μ t a i v) = kd μ := rfl
theorem ln_setA (μ : Mm) (t a i : Nat) (v : Value) : ln (setA μ t a i v) = ln μ := rfl
theorem fd_setA (μ : Mm) (t a i : Nat) (v : Value) : fd (setA μ t a i v) = fd μ := rfl
theorem nx_setA (μ : Mm) (t a i : Nat) (v : Value) : nx (setA μ t a i v) = nx μ := rfl
theorem sn_setA (μ : Mm) (t a i : Nat) (v : Value) : sn (setA μ t a i v) = sn μ := rfl
theorem sa_setA (μ : Mm) (t a i : Nat) (v : Value) : sa (setA μ t a i v) = sa μ := rfl
theorem sv_setA (μ : Mm) (t a i : Nat) (v : Value) : sv (setA μ t a i v) = sv μ := rfl
/-! truth as a number -/
def bi (t : Bool) : Int32 := if t = true then 1 else 0
theorem bi_if (t : Bool) : (if t = true then (1 : Int32) else 0) = bi t := rfl
theorem bi_ne (t : Bool) : decide (¬ bi t = 0) = t := by cases t <;> decide
theorem bi_zfi (t : Bool) : zfi .boolean (.int (bi t)) = true := by cases t <;> decide
theorem bi_inj (t u : Bool) : bi t = bi u ↔ t = u := by cases t <;> cases u <;> decide
theorem zfi_int (x : Int32) : zfi .int (.int x) = true := rfl
theorem zfi_long (x : Int64) : zfi .long (.long x) = true := rfl
/-! places in arrays -/
theorem zin_nI {i n : Nat} (h : i < n) (hn : n < 2 ^ 31) : zin (nI i) n = true := by
  simp only [zin, Bool.and_eq_true, decide_eq_true_eq]
  exact ⟨nI_pos' (by omega), by rw [nI_clamp (by omega)]; omega⟩
theorem lit (n : Nat) : (OfNat.ofNat n : Int32) = nI (OfNat.ofNat n) := rfl
/-! bits -/
theorem nI_bv (n : Nat) : (nI n).toBitVec = BitVec.ofNat 32 n := rfl
theorem n_and (a b : Nat) : nI a &&& nI b = nI (a &&& b) := by
  apply Int32.toBitVec_inj.mp
  rw [Int32.toBitVec_and, nI_bv, nI_bv, nI_bv, BitVec.ofNat_and]
theorem n_or (a b : Nat) : nI a ||| nI b = nI (a ||| b) := by
  apply Int32.toBitVec_inj.mp
  rw [Int32.toBitVec_or, nI_bv, nI_bv, nI_bv, BitVec.ofNat_or]
theorem n_xor (a b : Nat) : nI a ^^^ nI b = nI (a ^^^ b) := by
  apply Int32.toBitVec_inj.mp
  rw [Int32.toBitVec_xor, nI_bv, nI_bv, nI_bv, BitVec.ofNat_xor]
def dif (h x : Nat) : Nat := h ^^^ (h &&& x)
theorem tb_dif (h x i : Nat) : (dif h x).testBit i = (h.testBit i && !x.testBit i) := by
  unfold dif
  rw [Nat.testBit_xor, Nat.testBit_and]
  cases h.testBit i <;> cases x.testBit i <;> rfl
theorem n_dif (h x : Nat) : nI h &&& (nI x ^^^ (-1)) = nI (dif h x) := by
  apply Int32.toBitVec_inj.mp
  rw [Int32.toBitVec_and, Int32.toBitVec_xor, nI_bv, nI_bv, nI_bv]
  apply BitVec.eq_of_getLsbD_eq
  intro i hi
  have e : (Int32.toBitVec (-1)).getLsbD i = true := by
    have : (Int32.toBitVec (-1)) = BitVec.allOnes 32 := by decide
    rw [this, BitVec.getLsbD_allOnes]
    simpa using hi
  rw [BitVec.getLsbD_and, BitVec.getLsbD_xor, e, BitVec.getLsbD_ofNat, BitVec.getLsbD_ofNat, BitVec.getLsbD_ofNat, tb_dif]
  cases h.testBit i <;> cases x.testBit i <;> simp [hi]
theorem sh31 : ∀ t, t < 32 → ((nI t) &&& 31) = nI t := by decide +kernel
theorem sh_mod : ∀ t, t < 32 → ((nI t).toBitVec.smod 32).toNat = t := by decide +kernel
theorem n_shl (t : Nat) (ht : t < 31) : (1 : Int32) <<< (nI t &&& 31) = nI (2 ^ t) := by
  have : ∀ t, t < 31 → (1 : Int32) <<< (nI t &&& 31) = nI (2 ^ t) := by decide +kernel
  exact this t ht
theorem n_shr (h t : Nat) (hh : h < 2 ^ 31) (ht : t < 31) : nI h >>> (nI t &&& 31) = nI (h / 2 ^ t) := by
  rw [sh31 t (by omega)]
  exact pk_shrN hh (nI t) t (sh_mod t (by omega))
theorem n_bit (h t : Nat) (hh : h < 2 ^ 31) (ht : t < 31) : (nI h >>> (nI t &&& 31)) &&& 1 = bi (h.testBit t) := by
  rw [n_shr h t hh ht]
  have : nI (h / 2 ^ t) &&& 1 = nI ((h / 2 ^ t) % 2) := by
    have := pk_andN (n := h / 2 ^ t) (by
      have : h / 2 ^ t ≤ h := Nat.div_le_self _ _
      omega) (m := 1) 1 (by decide)
    simpa using this
  rw [this, ← Nat.toNat_testBit h t]
  cases h.testBit t <;> rfl
/-! loops -/
theorem whF_inv {α : Type} {b : Bp} {s u : Sp} (E : α → List Value → Mm → Prop) (ms : α → Nat) (Post : Nat → Option Value → List Value → Mm → Prop)
    (step : ∀ a L μ, E a L μ → (b L μ = some (false, μ) ∧ Post 0 none L μ) ∨ (b L μ = some (true, μ) ∧ ∃ o v L2 μ2, s L μ = some (o, v, L2, μ2) ∧ ((o = 1 ∧ Post 1 v L2 μ2) ∨ (o = 3 ∧ Post 0 none L2 μ2) ∨ ((o = 0 ∨ o = 2) ∧ ∃ v' L3 μ3 a', u L2 μ2 = some (0, v', L3, μ3) ∧ E a' L3 μ3 ∧ ms a' < ms a)))) :
    ∀ (n : Nat) (a : α) (L : List Value) (μ : Mm), ms a < n → E a L μ → ∃ o v L' μ', whF b s u n L μ = some (o, v, L', μ') ∧ Post o v L' μ' := by
  intro n
  induction n with
  | zero => intro a L μ h; omega
  | succ n ih =>
    intro a L μ hm hE
    rcases step a L μ hE with ⟨hb, hp⟩ | ⟨hb, o, v, L2, μ2, hs, hr⟩
    · refine ⟨0, none, L, μ, ?_, hp⟩
      simp only [whF, hb]
      simp
    · rcases hr with ⟨rfl, hp⟩ | ⟨rfl, hp⟩ | ⟨ho, v', L3, μ3, a', hu, hE', hlt⟩
      · exact ⟨1, v, L2, μ2, by simp only [whF, hb, hs]; simp, hp⟩
      · exact ⟨0, none, L2, μ2, by simp only [whF, hb, hs]; simp, hp⟩
      · obtain ⟨o', v2, L', μ', h1, h2⟩ := ih a' L3 μ3 (by omega) hE'
        refine ⟨o', v2, L', μ', ?_, h2⟩
        have n1 : ¬ o = 1 := by omega
        have n3 : ¬ o = 3 := by omega
        simp only [whF, hb, hs, hu, if_neg n1, if_neg n3, if_pos ho, if_true]
        exact h1
theorem wh_inv {α : Type} {b : Bp} {s u : Sp} (E : α → List Value → Mm → Prop) (ms : α → Nat) (Post : Nat → Option Value → List Value → Mm → Prop)
    (step : ∀ a L μ, E a L μ → (b L μ = some (false, μ) ∧ Post 0 none L μ) ∨ (b L μ = some (true, μ) ∧ ∃ o v L2 μ2, s L μ = some (o, v, L2, μ2) ∧ ((o = 1 ∧ Post 1 v L2 μ2) ∨ (o = 3 ∧ Post 0 none L2 μ2) ∨ ((o = 0 ∨ o = 2) ∧ ∃ v' L3 μ3 a', u L2 μ2 = some (0, v', L3, μ3) ∧ E a' L3 μ3 ∧ ms a' < ms a))))
    {a : α} {L : List Value} {μ : Mm} (hm : ms a < zfuel) (hE : E a L μ) : ∃ o v L' μ', wh b s u L μ = some (o, v, L', μ') ∧ Post o v L' μ' :=
  whF_inv E ms Post step zfuel a L μ hm hE
/-- counted loops: n rounds, or a return on the way -/
theorem wh_for {b : Bp} {s u : Sp} (n : Nat) (E : Nat → List Value → Mm → Prop) (Post : Nat → Option Value → List Value → Mm → Prop) (hn : n < 1000000)
    (step : ∀ i L μ, i < n → E i L μ → b L μ = some (true, μ) ∧ ∃ o v L2 μ2, s L μ = some (o, v, L2, μ2) ∧ ((o = 1 ∧ Post 1 v L2 μ2) ∨ (o = 3 ∧ Post 0 none L2 μ2) ∨ ((o = 0 ∨ o = 2) ∧ ∃ v' L3 μ3, u L2 μ2 = some (0, v', L3, μ3) ∧ E (i + 1) L3 μ3)))
    (last : ∀ L μ, E n L μ → b L μ = some (false, μ) ∧ Post 0 none L μ)
    {L : List Value} {μ : Mm} (hE : E 0 L μ) : ∃ o v L' μ', wh b s u L μ = some (o, v, L', μ') ∧ Post o v L' μ' := by
  refine wh_inv (fun i L μ => i ≤ n ∧ E i L μ) (fun i => n - i) Post ?_ (a := 0) (by show n - 0 < zfuel; unfold zfuel; omega) ⟨Nat.zero_le _, hE⟩
  intro i L μ ⟨hi, hE⟩
  by_cases h : i = n
  · subst h
    exact Or.inl (last L μ hE)
  · obtain ⟨hb, o, v, L2, μ2, hs, hr⟩ := step i L μ (by omega) hE
    refine Or.inr ⟨hb, o, v, L2, μ2, hs, ?_⟩
    rcases hr with hr | hr | ⟨ho, v', L3, μ3, hu, hE'⟩
    · exact Or.inl hr
    · exact Or.inr (Or.inl hr)
    · exact Or.inr (Or.inr ⟨ho, v', L3, μ3, i + 1, hu, ⟨by omega, hE'⟩, by omega⟩)
/-- rounds of a pure function -/
def itn {α : Type} (f : Nat → α → α) : Nat → α → α
  | 0, a => a
  | n + 1, a => f n (itn f n a)
/-- a counted loop that never leaves -/
theorem wh_fun {α : Type} {b : Bp} {s u : Sp} (n : Nat) (f : Nat → α → α) (E : Nat → α → List Value → Mm → Prop) (hn : n < 1000000)
    (step : ∀ i a L μ, i < n → E i a L μ → b L μ = some (true, μ) ∧ ∃ o v L2 μ2, s L μ = some (o, v, L2, μ2) ∧ (o = 0 ∨ o = 2) ∧ ∃ v' L3 μ3, u L2 μ2 = some (0, v', L3, μ3) ∧ E (i + 1) (f i a) L3 μ3)
    (last : ∀ a L μ, E n a L μ → b L μ = some (false, μ))
    {a : α} {L : List Value} {μ : Mm} (hE : E 0 a L μ) : ∃ L' μ', wh b s u L μ = some (0, none, L', μ') ∧ E n (itn f n a) L' μ' := by
  obtain ⟨o, v, L', μ', h1, h2, h3, h4⟩ := wh_for (b := b) (s := s) (u := u) n (fun i L μ => E i (itn f i a) L μ) (fun o v L μ => o = 0 ∧ v = none ∧ E n (itn f n a) L μ) hn
    (fun i L μ hi hE => by
      obtain ⟨hb, o, v, L2, μ2, hs, ho, v', L3, μ3, hu, hE'⟩ := step i _ L μ hi hE
      exact ⟨hb, o, v, L2, μ2, hs, Or.inr (Or.inr ⟨ho, v', L3, μ3, hu, hE'⟩)⟩)
    (fun L μ hE => ⟨last _ L μ hE, rfl, rfl, hE⟩) hE
  subst h2 h3
  exact ⟨L', μ', h1, h4⟩
