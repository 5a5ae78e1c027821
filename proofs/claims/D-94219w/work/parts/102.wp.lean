set_option maxRecDepth 100000
/-! what a statement must bring: a shape for simp -/
def SW (s : Sp) (L : List Value) (μ : Mm) (Q : Nat → Option Value → List Value → Mm → Prop) : Prop := ∃ o v L' μ', s L μ = some (o, v, L', μ') ∧ Q o v L' μ'
theorem SW_m (s : Sp) (L : List Value) (μ : Mm) (Q : Nat → Option Value → List Value → Mm → Prop) : SW s L μ Q = (match s L μ with
  | some (o, v, L', μ') => Q o v L' μ'
  | none => False) := by
  apply propext
  unfold SW
  constructor
  · rintro ⟨o, v, L', μ', h1, h2⟩
    rw [h1]
    exact h2
  · intro h
    split at h
    · exact ⟨_, _, _, _, by assumption, h⟩
    · exact h.elim
def BW (b : Bp) (L : List Value) (μ : Mm) (Q : Bool → Mm → Prop) : Prop := ∃ t μ', b L μ = some (t, μ') ∧ Q t μ'
theorem BW_v (b : Bp) (L : List Value) (μ : Mm) (Q : Bool → Mm → Prop) : BW b L μ Q = (match b L μ with
  | some (t, μ') => Q t μ'
  | none => False) := by
  apply propext
  unfold BW
  constructor
  · rintro ⟨t, μ', h1, h2⟩
    rw [h1]
    exact h2
  · intro h
    split at h
    · exact ⟨_, _, by assumption, h⟩
    · exact h.elim
def FW (F : Fn) (As : List Value) (μ : Mm) (Q : Option Value → Mm → Prop) : Prop := ∃ v μ', F As μ = some (v, μ') ∧ Q v μ'
theorem FW_m (F : Fn) (As : List Value) (μ : Mm) (Q : Option Value → Mm → Prop) : FW F As μ Q = (match F As μ with
  | some (v, μ') => Q v μ'
  | none => False) := by
  apply propext
  unfold FW
  constructor
  · rintro ⟨v, μ', h1, h2⟩
    rw [h1]
    exact h2
  · intro h
    split at h
    · exact ⟨_, _, by assumption, h⟩
    · exact h.elim
theorem SW_ex {s : Sp} {L : List Value} {μ : Mm} {Q : Nat → Option Value → List Value → Mm → Prop} : SW s L μ Q ↔ ∃ o v L' μ', s L μ = some (o, v, L', μ') ∧ Q o v L' μ' := Iff.rfl
theorem FW_ex {F : Fn} {As : List Value} {μ : Mm} {Q : Option Value → Mm → Prop} : FW F As μ Q ↔ ∃ v μ', F As μ = some (v, μ') ∧ Q v μ' := Iff.rfl
theorem FW_eq {F : Fn} {As : List Value} {μ μ' : Mm} {v : Option Value} (h : FW F As μ (fun v1 μ1 => v1 = v ∧ μ1 = μ')) : F As μ = some (v, μ') := by
  obtain ⟨v1, μ1, h1, rfl, rfl⟩ := FW_ex.mp h
  exact h1
theorem SW_mono {s : Sp} {L : List Value} {μ : Mm} {Q Q' : Nat → Option Value → List Value → Mm → Prop} (h : SW s L μ Q) (hq : ∀ o v L' μ', Q o v L' μ' → Q' o v L' μ') : SW s L μ Q' := by
  obtain ⟨o, v, L', μ', h1, h2⟩ := SW_ex.mp h
  exact SW_ex.mpr ⟨o, v, L', μ', h1, hq _ _ _ _ h2⟩
theorem SW_sSq (a b : Sp) (L : List Value) (μ : Mm) (Q : Nat → Option Value → List Value → Mm → Prop) : SW (sSq a b) L μ Q = SW a L μ (fun o v L1 μ1 => if o = 0 then SW b L1 μ1 Q else Q o v L1 μ1) := by
  rw [SW_m, SW_m]
  unfold sSq
  cases h : a L μ with
  | none => rfl
  | some r =>
    obtain ⟨o, v, L1, μ1⟩ := r
    by_cases ho : o = 0
    · simp only [ho, if_true]
      rw [SW_m]
    · simp only [ho, if_false]
theorem SW_sIf (b : Bp) (s u : Sp) (L : List Value) (μ : Mm) (Q : Nat → Option Value → List Value → Mm → Prop) : SW (sIf b s u) L μ Q = BW b L μ (fun t μ1 => if t = true then SW s L μ1 Q else SW u L μ1 Q) := by
  rw [SW_m, BW_v]
  unfold sIf
  cases h : b L μ with
  | none => rfl
  | some r =>
    obtain ⟨t, μ1⟩ := r
    cases t
    · exact (SW_m u L μ1 Q).symm
    · exact (SW_m s L μ1 Q).symm
theorem SW_sSk (L : List Value) (μ : Mm) (Q : Nat → Option Value → List Value → Mm → Prop) : SW sSk L μ Q = Q 0 none L μ := SW_m _ _ _ _
theorem SW_sRv (L : List Value) (μ : Mm) (Q : Nat → Option Value → List Value → Mm → Prop) : SW sRv L μ Q = Q 1 none L μ := SW_m _ _ _ _
theorem SW_sCo (L : List Value) (μ : Mm) (Q : Nat → Option Value → List Value → Mm → Prop) : SW sCo L μ Q = Q 2 none L μ := SW_m _ _ _ _
theorem SW_sBr (L : List Value) (μ : Mm) (Q : Nat → Option Value → List Value → Mm → Prop) : SW sBr L μ Q = Q 3 none L μ := SW_m _ _ _ _
theorem SW_stI (i : Nat) (e : Xp) (L : List Value) (μ : Mm) (Q : Nat → Option Value → List Value → Mm → Prop) : SW (stI i e) L μ Q = (match stI i e L μ with
  | some (o, v, L', μ') => Q o v L' μ'
  | none => False) := SW_m _ _ _ _
theorem SW_stA (i : Nat) (e : Xp) (L : List Value) (μ : Mm) (Q : Nat → Option Value → List Value → Mm → Prop) : SW (stA i e) L μ Q = (match stA i e L μ with
  | some (o, v, L', μ') => Q o v L' μ'
  | none => False) := SW_m _ _ _ _
theorem SW_stJ (i : Nat) (e : Xp) (L : List Value) (μ : Mm) (Q : Nat → Option Value → List Value → Mm → Prop) : SW (stJ i e) L μ Q = (match stJ i e L μ with
  | some (o, v, L', μ') => Q o v L' μ'
  | none => False) := SW_m _ _ _ _
theorem SW_inc (i : Nat) (n : Int32) (L : List Value) (μ : Mm) (Q : Nat → Option Value → List Value → Mm → Prop) : SW (inc i n) L μ Q = (match inc i n L μ with
  | some (o, v, L', μ') => Q o v L' μ'
  | none => False) := SW_m _ _ _ _
theorem SW_pF (c j : Nat) (a e : Xp) (L : List Value) (μ : Mm) (Q : Nat → Option Value → List Value → Mm → Prop) : SW (pF c j a e) L μ Q = (match pF c j a e L μ with
  | some (o, v, L', μ') => Q o v L' μ'
  | none => False) := SW_m _ _ _ _
theorem SW_fO (c j : Nat) (g : Int32 → Int32 → Int32) (a e : Xp) (L : List Value) (μ : Mm) (Q : Nat → Option Value → List Value → Mm → Prop) : SW (fO c j g a e) L μ Q = (match fO c j g a e L μ with
  | some (o, v, L', μ') => Q o v L' μ'
  | none => False) := SW_m _ _ _ _
theorem SW_aS (t : Nat) (a i e : Xp) (L : List Value) (μ : Mm) (Q : Nat → Option Value → List Value → Mm → Prop) : SW (aS t a i e) L μ Q = (match aS t a i e L μ with
  | some (o, v, L', μ') => Q o v L' μ'
  | none => False) := SW_m _ _ _ _
theorem SW_aOI (g : Int32 → Int32 → Int32) (a i e : Xp) (L : List Value) (μ : Mm) (Q : Nat → Option Value → List Value → Mm → Prop) : SW (aOI g a i e) L μ Q = (match aOI g a i e L μ with
  | some (o, v, L', μ') => Q o v L' μ'
  | none => False) := SW_m _ _ _ _
theorem SW_aOJ (g : Int64 → Int64 → Int64) (a i e : Xp) (L : List Value) (μ : Mm) (Q : Nat → Option Value → List Value → Mm → Prop) : SW (aOJ g a i e) L μ Q = (match aOJ g a i e L μ with
  | some (o, v, L', μ') => Q o v L' μ'
  | none => False) := SW_m _ _ _ _
theorem SW_exs (e : Xp) (L : List Value) (μ : Mm) (Q : Nat → Option Value → List Value → Mm → Prop) : SW (exs e) L μ Q = (match exs e L μ with
  | some (o, v, L', μ') => Q o v L' μ'
  | none => False) := SW_m _ _ _ _
theorem SW_sRe (ty : FieldType) (e : Xp) (L : List Value) (μ : Mm) (Q : Nat → Option Value → List Value → Mm → Prop) : SW (sRe ty e) L μ Q = (match sRe ty e L μ with
  | some (o, v, L', μ') => Q o v L' μ'
  | none => False) := SW_m _ _ _ _
theorem SW_sRr (e : Xp) (L : List Value) (μ : Mm) (Q : Nat → Option Value → List Value → Mm → Prop) : SW (sRr e) L μ Q = (match sRr e L μ with
  | some (o, v, L', μ') => Q o v L' μ'
  | none => False) := SW_m _ _ _ _
/-- a call for its effect -/
theorem SW_exv (F : Fn) (es : List (Nat × Xp)) (L : List Value) (μ : Mm) (Q : Nat → Option Value → List Value → Mm → Prop) : SW (exv F es) L μ Q = (match evs es L μ with
  | some (As, μ1) => FW F As μ1 (fun r μ2 => r = none ∧ Q 0 none L μ2)
  | none => False) := by
  rw [SW_m]
  unfold exv
  cases evs es L μ with
  | none => rfl
  | some r =>
    obtain ⟨As, μ1⟩ := r
    simp only [FW_m]
    cases h : F As μ1 with
    | none => simp [h]
    | some r =>
      obtain ⟨w, μ2⟩ := r
      cases w <;> simp [h]
theorem FW_mth {c n nL : Nat} {body : Sp} {As : List Value} {μ : Mm} {Q : Option Value → Mm → Prop} (h0 : As.length = n ∧ (zex As).length ≤ nL ∧ (c = 0 ∨ hasK c μ As = true)) (h : SW body (zlo nL As) μ (fun o v _ μ' => o = 1 ∧ nx μ ≤ nx μ' ∧ sn μ ≤ sn μ' ∧ Q v μ')) : FW (mth c n nL body) As μ Q := by
  obtain ⟨o, v, L', μ', h1, h2, h3, h4, h5⟩ := SW_ex.mp h
  rw [FW_m]
  unfold mth
  rw [if_pos h0, h1]
  simp only [h2, h3, h4, and_self, if_true]
  exact h5
theorem ite_mm {α β : Type} (p : Prop) [Decidable p] (x y : α) (μ : β) : (if p then some (x, μ) else some (y, μ)) = some (if p then x else y, μ) := by
  split <;> rfl
theorem ite_vi (p : Prop) [Decidable p] (x y : Int32) : (if p then Value.int x else Value.int y) = Value.int (if p then x else y) := by
  split <;> rfl
theorem ite_vj (p : Prop) [Decidable p] (x y : Int64) : (if p then Value.long x else Value.long y) = Value.long (if p then x else y) := by
  split <;> rfl
theorem ite_and (t u : Bool) : (if t = true then u else false) = (t && u) := by cases t <;> rfl
theorem ite_or (t u : Bool) : (if t = true then true else u) = (t || u) := by cases t <;> rfl
/-- loops: by a state a and a measure -/
theorem SW_inv {α : Type} {b : Bp} {s u : Sp} {Q : Nat → Option Value → List Value → Mm → Prop} (E : α → List Value → Mm → Prop) (ms : α → Nat)
    {a : α} {L : List Value} {μ : Mm} (hm : ms a < 1000000) (hE : E a L μ)
    (step : ∀ a L μ, E a L μ → BW b L μ (fun t μ1 => μ1 = μ ∧ if t = true then SW s L μ (fun o v L2 μ2 => (o = 1 ∧ Q 1 v L2 μ2) ∨ (o = 3 ∧ Q 0 none L2 μ2) ∨ ((o = 0 ∨ o = 2) ∧ SW u L2 μ2 (fun o' _ L3 μ3 => o' = 0 ∧ ∃ a', E a' L3 μ3 ∧ ms a' < ms a))) else Q 0 none L μ)) : SW (wh b s u) L μ Q := by
  refine SW_ex.mpr (wh_inv E ms Q ?_ hm hE)
  intro a L μ hE
  have h := step a L μ hE
  rw [BW_v] at h
  split at h
  · rename_i t μ1 hb
    obtain ⟨rfl, h⟩ := h
    cases t with
    | false => exact Or.inl ⟨hb, by simpa using h⟩
    | true =>
      rw [if_pos rfl] at h
      obtain ⟨o, v, L2, μ2, h1, h2⟩ := SW_ex.mp h
      refine Or.inr ⟨hb, o, v, L2, μ2, h1, ?_⟩
      rcases h2 with h2 | h2 | ⟨ho, h2⟩
      · exact Or.inl h2
      · exact Or.inr (Or.inl h2)
      · obtain ⟨o', v', L3, μ3, h3, h4, a', h5, h6⟩ := SW_ex.mp h2
        subst h4
        exact Or.inr (Or.inr ⟨ho, v', L3, μ3, a', h3, h5, h6⟩)
  · exact h.elim
/-- counted loops that never leave: rounds of f over a -/
theorem SW_fun {α : Type} {b : Bp} {s u : Sp} {Q : Nat → Option Value → List Value → Mm → Prop} (n : Nat) (f : Nat → α → α) (E : Nat → α → List Value → Mm → Prop) {a : α} {L : List Value} {μ : Mm} (hn : n < 1000000) (hE : E 0 a L μ)
    (step : ∀ i a L μ, i < n → E i a L μ → BW b L μ (fun t μ1 => μ1 = μ ∧ t = true ∧ SW s L μ (fun o _ L2 μ2 => (o = 0 ∨ o = 2) ∧ SW u L2 μ2 (fun o' _ L3 μ3 => o' = 0 ∧ E (i + 1) (f i a) L3 μ3))))
    (last : ∀ a L μ, E n a L μ → BW b L μ (fun t μ1 => μ1 = μ ∧ t = false))
    (done : ∀ L μ, E n (itn f n a) L μ → Q 0 none L μ) : SW (wh b s u) L μ Q := by
  refine SW_inv (fun (i : Nat) L μ => i ≤ n ∧ E i (itn f i a) L μ) (fun i => n - i) (a := 0) (by omega) ⟨Nat.zero_le _, hE⟩ ?_
  intro i L μ ⟨hi, hE⟩
  by_cases h : i = n
  · subst h
    have hl := last _ L μ hE
    rw [BW_v] at hl ⊢
    split at hl
    · obtain ⟨rfl, rfl⟩ := hl
      exact ⟨rfl, by simpa using done L _ hE⟩
    · exact hl.elim
  · have hs := step i _ L μ (by omega) hE
    rw [BW_v] at hs ⊢
    split at hs
    · obtain ⟨rfl, rfl, hs⟩ := hs
      refine ⟨rfl, ?_⟩
      rw [if_pos rfl]
      refine SW_mono hs ?_
      intro o v L2 μ2 ⟨ho, h2⟩
      exact Or.inr (Or.inr ⟨ho, SW_mono h2 fun o' v' L3 μ3 ⟨h3, h4⟩ => ⟨h3, i + 1, ⟨by omega, h4⟩, by omega⟩⟩)
    · exact hs.elim
theorem oB_v (b : Bp) (L : List Value) (μ : Mm) : oB b L μ = (match b L μ with
  | some (t, μ1) => some (.int (bi t), μ1)
  | none => none) := rfl
theorem bi_1 (t : Bool) : bi t = 1 ↔ t = true := by cases t <;> decide
theorem bi_0 (t : Bool) : bi t = 0 ↔ t = false := by cases t <;> decide
theorem ite_nI (p : Prop) [Decidable p] (x y : Nat) : (if p then nI x else nI y) = nI (if p then x else y) := by
  split <;> rfl
