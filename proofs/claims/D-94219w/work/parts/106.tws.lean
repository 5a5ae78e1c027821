set_option maxRecDepth 100000
/-! the twin's stores -/
def up1 {α : Type} (f : Nat → α) (i : Nat) (x : α) : Nat → α := fun j => if j = i then x else f j
def up2 {α : Type} (f : Nat → Nat → α) (j i : Nat) (x : α) : Nat → Nat → α := fun j' i' => if j' = j ∧ i' = i then x else f j' i'
theorem up1_a {α : Type} (f : Nat → α) (i : Nat) (x : α) (j : Nat) : up1 f i x j = if j = i then x else f j := rfl
theorem up2_a {α : Type} (f : Nat → Nat → α) (j i : Nat) (x : α) (j' i' : Nat) : up2 f j i x j' i' = if j' = j ∧ i' = i then x else f j' i' := rfl
def uI (τ : Tt) (j : Nat) (x : Int32) : Tt := (up1 τ.1 j x, τ.2)
def uJ (τ : Tt) (j : Nat) (x : Int64) : Tt := (τ.1, up1 τ.2.1 j x, τ.2.2)
def uA (τ : Tt) (j i : Nat) (x : Int32) : Tt := (τ.1, τ.2.1, up2 τ.2.2.1 j i x, τ.2.2.2)
def uB (τ : Tt) (j i : Nat) (x : Int64) : Tt := (τ.1, τ.2.1, τ.2.2.1, up2 τ.2.2.2 j i x)
theorem to_rng : ∀ j, j < 63 → 100 ≤ tk j → 1 ≤ to j ∧ to j < 40 := by decide +kernel
theorem to_inj0 : ∀ j, j < 63 → ∀ i, i < 63 → 100 ≤ tk j → 100 ≤ tk i → to j = to i → j = i := by decide +kernel
theorem tk_big (j : Nat) (h : 63 ≤ j) : tk j = 999999 := by
  unfold tk
  split <;> first | (exfalso; omega) | rfl
theorem to_r {j t : Nat} (h : tk j = 100 + t) (ht : t < 4) : j < 63 ∧ 1 ≤ to j ∧ to j < 40 := by
  have hj : j < 63 := by
    by_cases c : j < 63
    · exact c
    · have := tk_big j (by omega)
      omega
  exact ⟨hj, to_rng j hj (by omega)⟩
theorem to_i {j t i u : Nat} (h : tk j = 100 + t) (ht : t < 4) (h' : tk i = 100 + u) (hu : u < 4) (e : to j = to i) : j = i :=
  to_inj0 j (to_r h ht).1 i (to_r h' hu).1 (by omega) (by omega) e
/-- outside the twin nothing changes, and nothing is made -/
def FrT (M : Nat) (μ μ' : Mm) : Prop := kd μ' = kd μ ∧ ln μ' = ln μ ∧ nx μ' = nx μ ∧ sn μ' = sn μ ∧ sa μ' = sa μ ∧ sv μ' = sv μ ∧ (∀ c j a, a < M ∨ M + 40 ≤ a → fd μ' c j a = fd μ c j a) ∧ ∀ t a i, a < M ∨ M + 40 ≤ a → ar μ' t a i = ar μ t a i
theorem FrT.refl (M : Nat) (μ : Mm) : FrT M μ μ := ⟨rfl, rfl, rfl, rfl, rfl, rfl, fun _ _ _ _ => rfl, fun _ _ _ _ => rfl⟩
theorem FrT.trans {M : Nat} {μ μ1 μ2 : Mm} (h : FrT M μ μ1) (h' : FrT M μ1 μ2) : FrT M μ μ2 := by
  obtain ⟨a1, a2, a3, a4, a5, a6, a7, a8⟩ := h
  obtain ⟨b1, b2, b3, b4, b5, b6, b7, b8⟩ := h'
  exact ⟨b1.trans a1, b2.trans a2, b3.trans a3, b4.trans a4, b5.trans a5, b6.trans a6, fun c j a q => (b7 c j a q).trans (a7 c j a q), fun t a i q => (b8 t a i q).trans (a8 t a i q)⟩
/-- the twin in state τ, else as in μ0 -/
def TP (μ0 : Mm) (M : Nat) (τ : Tt) (μ : Mm) : Prop := TV τ M μ ∧ FrT M μ0 μ
theorem TP.I {μ0 : Mm} {M : Nat} {τ : Tt} {μ : Mm} (h : TP μ0 M τ μ) (j : Nat) (hj : tk j = 0) (x : Int32) : TP μ0 M (uI τ j x) (setF μ 4 j M (.int x)) := by
  obtain ⟨⟨h1, h2, h3, h4, h5, h6⟩, hF⟩ := h
  refine ⟨⟨h1, ?_, ?_, ?_, h5, h6⟩, hF.trans ⟨rfl, rfl, rfl, rfl, rfl, rfl, ?_, fun _ _ _ _ => rfl⟩⟩
  · intro j' hj'
    rw [fd_setF]
    simp only [uI, up1_a, true_and, and_true]
    split
    · rfl
    · exact h2 j' hj'
  · intro j' hj'
    rw [fd_setF]
    simp only [true_and, and_true]
    split
    · rename_i c
      subst c
      omega
    · exact h3 j' hj'
  · intro j' t ht ht4
    rw [fd_setF]
    simp only [true_and, and_true]
    split
    · rename_i c
      subst c
      omega
    · exact h4 j' t ht ht4
  · intro c j' a q
    rw [fd_setF]
    split
    · rename_i e
      omega
    · rfl
theorem TP.J {μ0 : Mm} {M : Nat} {τ : Tt} {μ : Mm} (h : TP μ0 M τ μ) (j : Nat) (hj : tk j = 1) (x : Int64) : TP μ0 M (uJ τ j x) (setF μ 4 j M (.long x)) := by
  obtain ⟨⟨h1, h2, h3, h4, h5, h6⟩, hF⟩ := h
  refine ⟨⟨h1, ?_, ?_, ?_, h5, h6⟩, hF.trans ⟨rfl, rfl, rfl, rfl, rfl, rfl, ?_, fun _ _ _ _ => rfl⟩⟩
  · intro j' hj'
    rw [fd_setF]
    simp only [true_and, and_true]
    split
    · rename_i c
      subst c
      omega
    · exact h2 j' hj'
  · intro j' hj'
    rw [fd_setF]
    simp only [uJ, up1_a, true_and, and_true]
    split
    · rfl
    · exact h3 j' hj'
  · intro j' t ht ht4
    rw [fd_setF]
    simp only [true_and, and_true]
    split
    · rename_i c
      subst c
      omega
    · exact h4 j' t ht ht4
  · intro c j' a q
    rw [fd_setF]
    split
    · rename_i e
      omega
    · rfl
theorem TP.A {μ0 : Mm} {M : Nat} {τ : Tt} {μ : Mm} (h : TP μ0 M τ μ) (j : Nat) {t : Nat} (hj : tk j = 100 + t) (ht : t < 4 ∧ t ≠ 1) (i : Nat) (x : Int32) : TP μ0 M (uA τ j i x) (setA μ t (M + to j) i (.int x)) := by
  obtain ⟨⟨h1, h2, h3, h4, h5, h6⟩, hF⟩ := h
  have hr := to_r hj ht.1
  refine ⟨⟨h1, h2, h3, h4, ?_, ?_⟩, hF.trans ⟨rfl, rfl, rfl, rfl, rfl, rfl, fun _ _ _ _ => rfl, ?_⟩⟩
  · intro j' t' hj' ht4 ht1 i'
    rw [ar_setA]
    simp only [uA, up2_a]
    by_cases e : j' = j
    · subst e
      have : t' = t := by omega
      subst this
      by_cases e' : i' = i
      · simp [e']
      · simp only [e', and_false, if_false]
        exact h5 j' t' hj' ht4 ht1 i'
    · have : ¬ M + to j' = M + to j := fun c => e (to_i hj' ht4 hj ht.1 (by omega))
      simp only [this, e, false_and, and_false, if_false]
      exact h5 j' t' hj' ht4 ht1 i'
  · intro j' hj' i'
    rw [ar_setA, if_neg (by rintro ⟨c, -⟩; exact ht.2 c.symm)]
    exact h6 j' hj' i'
  · intro t' a i' q
    rw [ar_setA, if_neg (by rintro ⟨-, c, -⟩; omega)]
theorem TP.B {μ0 : Mm} {M : Nat} {τ : Tt} {μ : Mm} (h : TP μ0 M τ μ) (j : Nat) (hj : tk j = 101) (i : Nat) (x : Int64) : TP μ0 M (uB τ j i x) (setA μ 1 (M + to j) i (.long x)) := by
  obtain ⟨⟨h1, h2, h3, h4, h5, h6⟩, hF⟩ := h
  have hr := to_r (t := 1) hj (by omega)
  refine ⟨⟨h1, h2, h3, h4, ?_, ?_⟩, hF.trans ⟨rfl, rfl, rfl, rfl, rfl, rfl, fun _ _ _ _ => rfl, ?_⟩⟩
  · intro j' t' hj' ht4 ht1 i'
    rw [ar_setA, if_neg (by rintro ⟨c, -⟩; exact ht1 c)]
    exact h5 j' t' hj' ht4 ht1 i'
  · intro j' hj' i'
    rw [ar_setA]
    simp only [uB, up2_a]
    by_cases e : j' = j
    · subst e
      by_cases e' : i' = i
      · simp [e']
      · simp only [e', and_false, if_false]
        exact h6 j' hj' i'
    · have : ¬ M + to j' = M + to j := fun c => e (to_i (t := 1) (u := 1) hj' (by omega) hj (by omega) (by omega))
      simp only [this, e, false_and, and_false, if_false]
      exact h6 j' hj' i'
  · intro t' a i' q
    rw [ar_setA, if_neg (by rintro ⟨-, c, -⟩; omega)]
