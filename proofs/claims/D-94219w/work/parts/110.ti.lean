set_option maxRecDepth 100000
/-! what the state keeps to, read off the twin -/
def nF (τ : Tt) (j : Nat) : Nat := (τ.1 j).toNatClampNeg
def hdN (τ : Tt) : Nat := nF τ 30
def hrN (τ : Tt) : Nat := nF τ 31
def thN (τ : Tt) : Nat := nF τ 32
def lgN (τ : Tt) : Nat := nF τ 35
def heN (τ : Tt) : Nat := nF τ 37
def rwN (τ : Tt) : Nat := nF τ 40
def szN (τ : Tt) : Nat := nF τ 1
def rpN (τ : Tt) (i : Nat) : Nat := (τ.2.2.1 41 i).toNatClampNeg
def rtN (τ : Tt) (i : Nat) : Nat := (τ.2.2.1 42 i).toNatClampNeg
/-- the state of a moment: had, hour, there, last, logs, hearings -/
def TM (g : Tg) (c : Nat) (h hr th : Nat) (la : Int32) (lg he : Nat) : Prop := (h < 2 ^ gn g ∧ pas g (-1) h = h) ∧ hr ≤ 200 * c ∧ th < 2 ^ gm g ∧ (la = -1 ∨ ∃ t, t < gn g ∧ la = nI t) ∧ lg ≤ 30 ∧ he ≤ 40
def TI (g : Tg) (c : Nat) (τ : Tt) : Prop := GT g τ ∧ WG g ∧ (τ.1 30 = nI (hdN τ) ∧ τ.1 31 = nI (hrN τ) ∧ τ.1 32 = nI (thN τ) ∧ τ.1 35 = nI (lgN τ) ∧ τ.1 37 = nI (heN τ) ∧ τ.1 40 = nI (rwN τ) ∧ τ.1 1 = nI (szN τ)) ∧ TM g c (hdN τ) (hrN τ) (thN τ) (τ.1 34) (lgN τ) (heN τ) ∧ (rwN τ ≤ 8 ∧ ∀ i, i < rwN τ → (τ.2.2.1 41 i = nI (rpN τ i) ∧ rpN τ i < gm g) ∧ τ.2.2.1 42 i = nI (rtN τ i) ∧ rtN τ i < gn g) ∧ szN τ ≤ 500 ∧
  (∀ k, k < 3 → τ.2.2.1 45 k = 0 ∨ (τ.2.2.1 45 k = 1 ∧ ∃ h hr th lg he, τ.2.2.1 46 k = nI h ∧ τ.2.2.1 47 k = nI hr ∧ τ.2.2.1 48 k = nI th ∧ τ.2.2.1 51 k = nI lg ∧ τ.2.2.1 53 k = nI he ∧ TM g c h hr th (τ.2.2.1 50 k) lg he))
/-! questions over the common state -/
def knQ (g : Tg) (p t : Nat) : Bool := decide (0 < gcl g p t)
def thQ (g : Tg) (th p t : Nat) : Bool := th.testBit p && knQ g p t
/-- somebody who is there knows it -/
def anyK (g : Tg) (th t : Nat) : Bool := anyB (fun p => thQ g th p t) (gm g)
def leQ (g : Tg) (t h : Nat) : Bool := decide (gle g t &&& h = gle g t)
def canQ (g : Tg) (τ : Tt) (p t : Nat) : Bool := thQ g (thN τ) p t && !(hdN τ).testBit t && leQ g t (hdN τ) && decide (nI (gaf g p t) ≤ τ.2.2.1 33 p)
/-- hearings by a person of a thing's version: free, led -/
def wst (τ : Tt) (t v p : Int32) (k : Nat) (a : Nat × Nat) : Nat × Nat := if τ.2.2.1 38 (4 * k) = t ∧ τ.2.2.1 38 (4 * k + 1) = p ∧ τ.2.2.1 38 (4 * k + 2) = v then (if τ.2.2.1 38 (4 * k + 3) = v then (a.1, a.2 + 1) else (a.1 + 1, a.2)) else a
def wpr (τ : Tt) (t v p : Int32) : Nat × Nat := itn (wst τ t v p) (heN τ) (0, 0)
def wgt (a : Nat × Nat) : Nat := if 1 < a.1 then 3 else if a.1 = 1 then 2 else if 0 < a.2 then 1 else 0
def wgN (g : Tg) (τ : Tt) (t v : Int32) : Nat := itn (fun p a => a + wgt (wpr τ t v (nI p))) (gm g) 0
def suQ (g : Tg) (τ : Tt) (t : Int32) (v : Nat) : Bool := decide (4 ≤ wgN g τ t (nI v)) && !anyB (fun u => decide (¬ u = v ∧ wgN g τ t (nI v) < 2 * wgN g τ t (nI u))) 4
/-- the first of some, or n -/
def fst1 (f : Nat → Bool) : Nat → Nat → Nat
  | 0, i => i
  | n + 1, i => if f i = true then i else fst1 f n (i + 1)
def suN (g : Tg) (τ : Tt) (t : Int32) : Int32 := if suQ g τ t 0 = true then 0 else if suQ g τ t 1 = true then 1 else if suQ g τ t 2 = true then 2 else if suQ g τ t 3 = true then 3 else -1
def fiV (g : Tg) (τ : Tt) (t v : Nat) : Int32 := nI (16 * wgN g τ (nI t) (nI v)) + (if τ.2.2.1 43 t = nI v then τ.2.2.1 44 t else 0) + (if τ.2.2.1 43 (10 + t) = nI v then τ.2.2.1 44 (10 + t) else 0)
def fiS (g : Tg) (τ : Tt) (t : Nat) (v : Nat) (a : Int32 × Int32) : Int32 × Int32 := if fiV g τ t v ≤ a.2 then a else (nI v, fiV g τ t v)
def fiN (g : Tg) (τ : Tt) (t : Nat) : Int32 := (itn (fiS g τ t) 4 (-1, 0)).1
def hdF (τ : Tt) (t p : Int32) : Nat := itn (fun k a => a + if τ.2.2.1 38 (4 * k) = t ∧ τ.2.2.1 38 (4 * k + 1) = p then 1 else 0) (heN τ) 0
theorem wgt_le (a : Nat × Nat) : wgt a ≤ 3 := by
  unfold wgt
  split
  · omega
  · split
    · omega
    · split <;> omega
theorem itn_le {f : Nat → Nat → Nat} {B : Nat} (h : ∀ i a, f i a ≤ a + B) : ∀ n a, itn f n a ≤ a + B * n := by
  intro n
  induction n with
  | zero => intro a; exact Nat.le_refl _
  | succ n ih =>
    intro a
    have h1 := h n (itn f n a)
    have h2 := ih a
    rw [Nat.mul_succ]
    show f n (itn f n a) ≤ _
    omega
theorem wgN_le (g : Tg) (w : WG g) (τ : Tt) (t v : Int32) : wgN g τ t v ≤ 9 := by
  have h := itn_le (f := fun p a => a + wgt (wpr τ t v (nI p))) (B := 3) (fun i a => Nat.add_le_add_left (wgt_le _) a) (gm g) 0
  have := w.2.1
  unfold wgN
  omega
theorem hdF_le (τ : Tt) (t p : Int32) : hdF τ t p ≤ heN τ := by
  have h := itn_le (f := fun k a => a + if τ.2.2.1 38 (4 * k) = t ∧ τ.2.2.1 38 (4 * k + 1) = p then 1 else 0) (B := 1) (fun i a => by
    show _ ≤ a + 1
    split <;> omega) (heN τ) 0
  unfold hdF
  omega
theorem worN_le {g : Tg} (w : WG g) (h : Nat) : worN g h ≤ 990 := by
  have h1 := itn_le (f := fun t a => a + if h.testBit t then gwo g t else 0) (B := 99) (fun i a => by
    have := w.2.2.2.2.1 i
    show _ ≤ a + 99
    split <;> omega) (gn g) 0
  have := w.1
  unfold worN
  omega
theorem houN_le {g : Tg} (w : WG g) (h : Nat) : houN g h ≤ 90 := by
  have h1 := itn_le (f := fun t a => a + if h.testBit t then gho g t else 0) (B := 9) (fun i a => by
    have := (w.2.2.2.2.2.1 i).1
    show _ ≤ a + 9
    split <;> omega) (gn g) 0
  have := w.1
  unfold houN
  omega
theorem TI.g {g : Tg} {c : Nat} {τ : Tt} (h : TI g c τ) : GT g τ := h.1
theorem TI.w {g : Tg} {c : Nat} {τ : Tt} (h : TI g c τ) : WG g := h.2.1
theorem TI.a {g : Tg} {c : Nat} {τ : Tt} (h : TI g c τ) : τ.1 30 = nI (hdN τ) ∧ τ.1 31 = nI (hrN τ) ∧ τ.1 32 = nI (thN τ) ∧ τ.1 35 = nI (lgN τ) ∧ τ.1 37 = nI (heN τ) ∧ τ.1 40 = nI (rwN τ) ∧ τ.1 1 = nI (szN τ) := h.2.2.1
theorem TI.m {g : Tg} {c : Nat} {τ : Tt} (h : TI g c τ) : TM g c (hdN τ) (hrN τ) (thN τ) (τ.1 34) (lgN τ) (heN τ) := h.2.2.2.1
theorem TI.r {g : Tg} {c : Nat} {τ : Tt} (h : TI g c τ) : rwN τ ≤ 8 ∧ ∀ i, i < rwN τ → (τ.2.2.1 41 i = nI (rpN τ i) ∧ rpN τ i < gm g) ∧ τ.2.2.1 42 i = nI (rtN τ i) ∧ rtN τ i < gn g := h.2.2.2.2.1
theorem TI.s {g : Tg} {c : Nat} {τ : Tt} (h : TI g c τ) : szN τ ≤ 500 := h.2.2.2.2.2.1
theorem TI.i {g : Tg} {c : Nat} {τ : Tt} (h : TI g c τ) : ∀ k, k < 3 → τ.2.2.1 45 k = 0 ∨ (τ.2.2.1 45 k = 1 ∧ ∃ h hr th lg he, τ.2.2.1 46 k = nI h ∧ τ.2.2.1 47 k = nI hr ∧ τ.2.2.1 48 k = nI th ∧ τ.2.2.1 51 k = nI lg ∧ τ.2.2.1 53 k = nI he ∧ TM g c h hr th (τ.2.2.1 50 k) lg he) := h.2.2.2.2.2.2
theorem WG.b {g : Tg} (w : WG g) : gn g ≤ 10 ∧ gm g ≤ 3 ∧ gk g ≤ 12 ∧ 2 ^ gn g ≤ 1024 ∧ 2 ^ gm g ≤ 8 ∧ gmo g ≤ 40 ∧ (0 < gn g → 9 ≤ gmo g) :=
  ⟨w.1, w.2.1, w.2.2.1, pow_le10 w.1, Nat.le_trans (Nat.pow_le_pow_right (by omega) w.2.1) (by decide), w.2.2.2.1, w.2.2.2.2.2.2.2.2.2.2.2⟩
theorem TI.b {g : Tg} {c : Nat} {τ : Tt} (h : TI g c τ) : gn g ≤ 10 ∧ gm g ≤ 3 ∧ gk g ≤ 12 ∧ hdN τ < 1024 ∧ thN τ < 8 ∧ lgN τ ≤ 30 ∧ heN τ ≤ 40 ∧ rwN τ ≤ 8 ∧ szN τ ≤ 500 ∧ hdN τ < 2 ^ gn g ∧ 2 ^ gn g ≤ 1024 :=
  have hb := h.w.b
  have h1 := h.m.1.1
  have h2 := h.m.2.2.1
  ⟨hb.1, hb.2.1, hb.2.2.1, by omega, by omega, h.m.2.2.2.2.1, h.m.2.2.2.2.2, h.r.1, h.s, h1, hb.2.2.2.1⟩
theorem gt20 {g : Tg} {τ : Tt} (h : GT g τ) : τ.1 20 = nI (gn g) := h.1
theorem gt22 {g : Tg} {τ : Tt} (h : GT g τ) : τ.1 22 = nI (gm g) := h.2.1
theorem gt27 {g : Tg} {τ : Tt} (h : GT g τ) : τ.1 27 = nI (gk g) := h.2.2.1
theorem gt29 {g : Tg} {τ : Tt} (h : GT g τ) : τ.1 29 = nI (gmo g) := h.2.2.2.1
theorem gt21 {g : Tg} {τ : Tt} (h : GT g τ) (t : Nat) (ht : t < gn g) : τ.2.2.1 21 (2 * t) = nI (gwo g t) := (h.2.2.2.2.1 t ht).1
theorem gt21h {g : Tg} {τ : Tt} (h : GT g τ) (t : Nat) (ht : t < gn g) : τ.2.2.1 21 (2 * t + 1) = nI (gho g t) := (h.2.2.2.2.1 t ht).2.1
theorem gt25 {g : Tg} {τ : Tt} (h : GT g τ) (t : Nat) (ht : t < gn g) : τ.2.2.1 25 t = nI (gle g t) := (h.2.2.2.2.1 t ht).2.2.1
theorem gt26 {g : Tg} {τ : Tt} (h : GT g τ) (t : Nat) (ht : t < gn g) : τ.2.2.1 26 t = nI (gne g t) := (h.2.2.2.2.1 t ht).2.2.2
theorem gt23 {g : Tg} {τ : Tt} (h : GT g τ) (p : Nat) (hp : p < gm g) : τ.2.2.1 23 p = nI (gst g p) := h.2.2.2.2.2.1 p hp
theorem gt24 {g : Tg} {τ : Tt} (h : GT g τ) (p t : Nat) (hp : p < gm g) (ht : t < gn g) : τ.2.2.1 24 (2 * (10 * p + t)) = nI (gcl g p t) := (h.2.2.2.2.2.2.1 p t hp ht).1
theorem gt24a {g : Tg} {τ : Tt} (h : GT g τ) (p t : Nat) (hp : p < gm g) (ht : t < gn g) : τ.2.2.1 24 (2 * (10 * p + t) + 1) = nI (gaf g p t) := (h.2.2.2.2.2.2.1 p t hp ht).2
theorem le_and {a h n : Nat} (ha : a < n) : a &&& h < n := Nat.lt_of_le_of_lt Nat.and_le_left ha
theorem leI {g : Tg} (w : WG g) (t h : Nat) : (nI (gle g t &&& h) = nI (gle g t)) ↔ leQ g t h = true := by
  have hb := w.b
  have h1 := w.2.2.2.2.2.2.1 t
  have h2 := le_and (h := h) h1
  unfold leQ
  rw [nI_eq (by omega) (by omega), decide_eq_true_eq]
theorem knI {g : Tg} (w : WG g) (p t : Nat) : (0 < nI (gcl g p t)) ↔ knQ g p t = true := by
  have h1 := (w.2.2.2.2.2.2.2.2.2.1 p t).1
  unfold knQ
  rw [nf_ltl0 _ (by omega), decide_eq_true_eq]
theorem knZ {g : Tg} (w : WG g) (p t : Nat) : (nI (gcl g p t) = 0) ↔ knQ g p t = false := by
  have h1 := (w.2.2.2.2.2.2.2.2.2.1 p t).1
  unfold knQ
  rw [nf_eqr0 _ (by omega), decide_eq_false_iff_not]
  omega
theorem fI {τ : Tt} {M : Nat} {μ : Mm} (h : TV τ M μ) (j : Nat) (hj : tk j = 0) : fd μ 4 j M = .int (τ.1 j) := h.2.1 j hj
theorem fR {τ : Tt} {M : Nat} {μ : Mm} (h : TV τ M μ) (j o : Nat) (hj : (decide (100 ≤ tk j) && decide (tk j < 104)) = true) (ho : to j = o) : fd μ 4 j M = .ref (M + o) := by
  rw [← ho]
  exact tvR h j hj
theorem fK {τ : Tt} {M : Nat} {μ : Mm} (h : TV τ M μ) (j o k : Nat) (hj : (decide (100 ≤ tk j) && decide (tk j < 104)) = true) (ho : to j = o) (hk : tk j = k) : kd μ (M + o) = k := by
  rw [← ho, ← hk]
  exact tvK h j hj
theorem fL {τ : Tt} {M : Nat} {μ : Mm} (h : TV τ M μ) (j o l : Nat) (hj : (decide (100 ≤ tk j) && decide (tk j < 104)) = true) (ho : to j = o) (hl : tl j = l) : ln μ (M + o) = l := by
  rw [← ho, ← hl]
  exact tvL h j hj
theorem fA {τ : Tt} {M : Nat} {μ : Mm} (h : TV τ M μ) (j o t : Nat) (hj : tk j = 100 + t) (ht : t < 4 ∧ t ≠ 1) (ho : to j = o) (i : Nat) : ar μ t (M + o) i = .int (τ.2.2.1 j i) := by
  rw [← ho]
  exact tvA h j hj ht i
theorem fB {τ : Tt} {M : Nat} {μ : Mm} (h : TV τ M μ) (j o : Nat) (hj : tk j = 101) (ho : to j = o) (i : Nat) : ar μ 1 (M + o) i = .long (τ.2.2.2 j i) := by
  rw [← ho]
  exact tvB h j hj i
theorem n_difc (h x : Nat) : nI h &&& ~~~ nI x = nI (dif h x) := by
  rw [← n_dif]
  congr 1
  simp
theorem tyI (j : Nat) (h : tk j = 0) : zdt 4 j = .int := by
  have : ∀ j, j < 63 → tk j = 0 → zdt 4 j = .int := by decide +kernel
  by_cases c : j < 63
  · exact this j c h
  · have := tk_big j (by omega)
    omega
theorem tyJ (j : Nat) (h : tk j = 1) : zdt 4 j = .long := by
  have : ∀ j, j < 63 → tk j = 1 → zdt 4 j = .long := by decide +kernel
  by_cases c : j < 63
  · exact this j c h
  · have := tk_big j (by omega)
    omega
