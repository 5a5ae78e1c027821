set_option maxRecDepth 100000
/-! in the mean: the worth by hours left, who is there, what is had -/
def wtN (g : Tg) (who stay : Nat) : Nat := itn (fun p a => if who.testBit p = true then a * (if stay.testBit p = true then gst g p else 16 - gst g p) else a) (gm g) 1
def alN (g : Tg) (who : Nat) : Nat := itn (fun p a => if who.testBit p = true then a * 16 else a) (gm g) 1
def suS1 (g : Tg) (f : Nat → Nat) (who stay a : Nat) : Nat := if dif stay who = 0 then a + wtN g who stay * f stay else a
def smN (g : Tg) (f : Nat → Nat) (who : Nat) : Nat := itn (suS1 g f who) (who + 1) 0
def crQ (g : Tg) (t left : Nat) : Bool := decide (left ≤ (t - 1) / gmo g * gmo g)
def bhV (g : Tg) (tab : Nat → Nat → Nat → Nat) (t left who h : Nat) : Nat := if crQ g t left = true then smN g (fun s => tab left s h) who / alN g who else tab left who h
def okM (g : Tg) (t who h p x : Nat) : Bool := who.testBit p && knQ g p x && !h.testBit x && leQ g x h && decide (gho g x ≤ t)
def vaM (g : Tg) (tab : Nat → Nat → Nat → Nat) (t who h p x : Nat) : Nat := (gcl g p x * bhV g tab t (t - gho g x) who (clo g (-1) (h ||| 2 ^ x)) + (16 - gcl g p x) * bhV g tab t (t - gho g x) who h) / 16
abbrev Om : Type := Option (Nat × Nat × Nat)
def mxx (g : Tg) (tab : Nat → Nat → Nat → Nat) (t who h p x : Nat) (a : Om) : Om := if okM g t who h p x = true then (match a with
  | none => some (vaM g tab t who h p x, p, x)
  | some b => if b.1 < vaM g tab t who h p x then some (vaM g tab t who h p x, p, x) else some b) else a
def mxp (g : Tg) (tab : Nat → Nat → Nat → Nat) (t who h p : Nat) (a : Om) : Om := itn (mxx g tab t who h p) (gn g) a
def mxN (g : Tg) (tab : Nat → Nat → Nat → Nat) (t who h : Nat) : Om := itn (mxp g tab t who h) (gm g) none
def lvN (g : Tg) (tab : Nat → Nat → Nat → Nat) (t who h : Nat) : Nat := match mxN g tab t who h with
  | none => 1000 * worN g h
  | some b => b.1
def vT (g : Tg) : Nat → Nat → Nat → Nat → Nat
  | 0 => fun _ _ _ => 0
  | T + 1 => fun s who h => if s = T then lvN g (vT g T) T who h else vT g T s who h
def valN (g : Tg) (t who h : Nat) : Nat := vT g (t + 1) t who h
theorem vT_at (g : Tg) (s who h : Nat) : ∀ T, s < T → vT g T s who h = valN g s who h := by
  intro T
  induction T with
  | zero => intro h; omega
  | succ T ih =>
    intro hs
    by_cases c : s = T
    · subst c
      rfl
    · show (if s = T then _ else _) = _
      rw [if_neg c]
      exact ih (by omega)
theorem mxx_cg {g : Tg} (w : WG g) {tab tab' : Nat → Nat → Nat → Nat} {t who h p x : Nat} (hx : x < gn g) (e : ∀ s, s < t → tab s = tab' s) (a : Om) : mxx g tab t who h p x a = mxx g tab' t who h p x a := by
  unfold mxx
  by_cases c : okM g t who h p x = true
  · have h1 : gho g x ≤ t := by
      unfold okM at c
      simp only [Bool.and_eq_true, decide_eq_true_eq] at c
      exact c.2
    have h2 := (w.2.2.2.2.2.1 x).2 hx
    have : vaM g tab t who h p x = vaM g tab' t who h p x := by
      unfold vaM bhV
      rw [e (t - gho g x) (by omega)]
    rw [this]
  · rw [if_neg c, if_neg c]
theorem lvN_cg {g : Tg} (w : WG g) {tab tab' : Nat → Nat → Nat → Nat} {t : Nat} (who h : Nat) (e : ∀ s, s < t → tab s = tab' s) : mxN g tab t who h = mxN g tab' t who h := by
  unfold mxN
  refine itn_congr fun p a _ => ?_
  exact itn_congr fun x a hx => mxx_cg w hx e a
theorem valN_eq {g : Tg} (w : WG g) (t who h : Nat) : valN g t who h = lvN g (valN g) t who h := by
  have e : valN g t who h = lvN g (vT g t) t who h := by
    show (if t = t then _ else _) = _
    rw [if_pos rfl]
  rw [e]
  unfold lvN
  rw [lvN_cg w who h fun s hs => funext fun a => funext fun b => vT_at g s a b t hs]
/-! who stays: the weights sum up to all -/
def smP (f : Nat → Nat) : Nat → Nat
  | 0 => 0
  | n + 1 => smP f n + f n
theorem smP_add (f : Nat → Nat) (n : Nat) : ∀ m, smP f (n + m) = smP f n + smP (fun i => f (n + i)) m := by
  intro m
  induction m with
  | zero => rfl
  | succ m ih =>
    show smP f (n + m) + f (n + m) = smP f n + (smP (fun i => f (n + i)) m + f (n + m))
    rw [ih, Nat.add_assoc]
theorem smP_mul (f : Nat → Nat) (c : Nat) : ∀ n, smP (fun i => f i * c) n = smP f n * c := by
  intro n
  induction n with
  | zero => simp [smP]
  | succ n ih => simp only [smP, ih, Nat.add_mul]
theorem smP_cg {f f' : Nat → Nat} : ∀ {n}, (∀ i, i < n → f i = f' i) → smP f n = smP f' n := by
  intro n
  induction n with
  | zero => intro _; rfl
  | succ n ih => intro h; simp only [smP, ih fun i hi => h i (by omega), h n (by omega)]
theorem smP_le {f f' : Nat → Nat} : ∀ {n}, (∀ i, i < n → f i ≤ f' i) → smP f n ≤ smP f' n := by
  intro n
  induction n with
  | zero => intro _; exact Nat.le_refl _
  | succ n ih => intro h; exact Nat.add_le_add (ih fun i hi => h i (by omega)) (h n (by omega))
def wtM (s : Nat → Nat) (who m stay : Nat) : Nat := itn (fun p a => if who.testBit p = true then a * (if stay.testBit p = true then s p else 16 - s p) else a) m 1
def alM (who m : Nat) : Nat := itn (fun p a => if who.testBit p = true then a * 16 else a) m 1
/-- stays that hold no one else, among m -/
def suM (who m stay : Nat) : Bool := !anyB (fun p => stay.testBit p && !who.testBit p) m
theorem wtM_cg {s : Nat → Nat} {who m a b : Nat} (h : ∀ p, p < m → a.testBit p = b.testBit p) : wtM s who m a = wtM s who m b := itn_congr fun p x hp => by rw [h p hp]
theorem suM_cg {who m a b : Nat} (h : ∀ p, p < m → a.testBit p = b.testBit p) : suM who m a = suM who m b := by
  unfold suM
  rw [anyB_congr fun p hp => by rw [h p hp]]
theorem tb_hi {m i : Nat} (hi : i < 2 ^ m) : (2 ^ m + i).testBit m = true := by rw [Nat.testBit_two_pow_add_eq, Nat.testBit_lt_two_pow hi]; rfl
theorem wt_all (s : Nat → Nat) (who : Nat) (hs : ∀ p, s p ≤ 16) : ∀ m, smP (fun i => if suM who m i = true then wtM s who m i else 0) (2 ^ m) = alM who m := by
  intro m
  induction m with
  | zero => rfl
  | succ m ih =>
    rw [show 2 ^ (m + 1) = 2 ^ m + 2 ^ m by rw [Nat.pow_succ]; omega, smP_add]
    have e1 : ∀ i, i < 2 ^ m → (if suM who (m + 1) i = true then wtM s who (m + 1) i else 0) = (if suM who m i = true then wtM s who m i else 0) * (if who.testBit m = true then 16 - s m else 1) := by
      intro i hi
      have b1 : i.testBit m = false := Nat.testBit_lt_two_pow hi
      have k1 : suM who (m + 1) i = suM who m i := by simp [suM, anyB, b1]
      have k2 : wtM s who (m + 1) i = if who.testBit m = true then wtM s who m i * (16 - s m) else wtM s who m i := by simp [wtM, itn, b1]
      rw [k1, k2]
      by_cases c : suM who m i = true <;> by_cases c2 : who.testBit m = true <;> simp [c, c2]
    have e2 : ∀ i, i < 2 ^ m → (if suM who (m + 1) (2 ^ m + i) = true then wtM s who (m + 1) (2 ^ m + i) else 0) = (if suM who m i = true then wtM s who m i else 0) * (if who.testBit m = true then s m else 0) := by
      intro i hi
      have b1 := tb_hi hi
      have b2 : ∀ p, p < m → (2 ^ m + i).testBit p = i.testBit p := fun p hp => Nat.testBit_two_pow_add_gt hp i
      have k1 : suM who (m + 1) (2 ^ m + i) = (suM who m i && who.testBit m) := by
        rw [← suM_cg b2]
        simp [suM, anyB, b1]
      have k2 : wtM s who (m + 1) (2 ^ m + i) = if who.testBit m = true then wtM s who m i * s m else wtM s who m i := by
        rw [← wtM_cg (s := s) (who := who) b2]
        simp [wtM, itn, b1]
      rw [k1, k2]
      by_cases c : suM who m i = true <;> by_cases c2 : who.testBit m = true <;> simp [c, c2]
    rw [smP_cg e1, smP_cg e2, smP_mul, smP_mul, ih, ← Nat.mul_add]
    have := hs m
    by_cases c2 : who.testBit m = true
    · rw [if_pos c2, if_pos c2, show 16 - s m + s m = 16 by omega]
      simp [alM, itn, c2]
    · rw [if_neg c2, if_neg c2]
      simp [alM, itn, c2]
theorem suM_dif {who m i : Nat} (hi : i < 2 ^ m) : suM who m i = true ↔ dif i who = 0 := by
  unfold suM
  rw [dif_0]
  constructor
  · intro h p hp
    simp only [Bool.not_eq_true'] at h
    have hm : p < m := by
      by_cases c : p < m
      · exact c
      · have := Nat.testBit_lt_two_pow (x := i) (i := p) (Nat.lt_of_lt_of_le hi (Nat.pow_le_pow_right (by omega) (by omega)))
        rw [this] at hp
        cases hp
    have := anyB_fi h p hm
    simpa [hp] using this
  · intro h
    simp only [Bool.not_eq_true']
    refine anyB_f fun p _ => ?_
    cases c : i.testBit p
    · rfl
    · simp [h p c]
theorem smN_smP (g : Tg) (f : Nat → Nat) {who : Nat} (hw : who < 2 ^ gm g) : smN g f who = smP (fun i => if suM who (gm g) i = true then wtM (gst g) who (gm g) i * f i else 0) (2 ^ gm g) := by
  have e1 : ∀ n, n ≤ 2 ^ gm g → itn (suS1 g f who) n 0 = smP (fun i => if suM who (gm g) i = true then wtM (gst g) who (gm g) i * f i else 0) n := by
    intro n
    induction n with
    | zero => intro _; rfl
    | succ n ih =>
      intro hn
      simp only [itn, smP, ih (by omega)]
      unfold suS1
      by_cases c : dif n who = 0
      · rw [if_pos c, if_pos ((suM_dif (by omega)).mpr c)]
        rfl
      · rw [if_neg c, if_neg (fun h => c ((suM_dif (by omega)).mp h))]
        rfl
  unfold smN
  rw [e1 _ (by omega)]
  have e2 : ∀ k, who + 1 + k ≤ 2 ^ gm g → smP (fun i => if suM who (gm g) i = true then wtM (gst g) who (gm g) i * f i else 0) (who + 1 + k) = smP (fun i => if suM who (gm g) i = true then wtM (gst g) who (gm g) i * f i else 0) (who + 1) := by
    intro k
    induction k with
    | zero => intro _; rfl
    | succ k ih =>
      intro hk
      rw [← Nat.add_assoc]
      simp only [smP]
      rw [if_neg]
      · exact ih (by omega)
      · intro h
        have := sub_le ((suM_dif (by omega)).mp h)
        omega
  have := e2 (2 ^ gm g - (who + 1)) (by omega)
  rw [show who + 1 + (2 ^ gm g - (who + 1)) = 2 ^ gm g by omega] at this
  exact this.symm
theorem alM_pos (who m : Nat) : 0 < alM who m := itn_inv (fun a => 0 < a) m 1 (by omega) fun p a _ ha => by
  show 0 < (if who.testBit p = true then a * 16 else a)
  replace ha : 0 < a := ha
  split <;> omega
theorem alN_le (g : Tg) (w : WG g) (who : Nat) : 0 < alN g who ∧ alN g who ≤ 4096 := by
  refine ⟨alM_pos who (gm g), ?_⟩
  have h : ∀ m, alM who m ≤ 16 ^ m := by
    intro m
    induction m with
    | zero => exact Nat.le_refl _
    | succ m ih =>
      simp only [alM, itn, Nat.pow_succ] at *
      split <;> omega
  have h3 := Nat.pow_le_pow_right (show 0 < 16 by omega) w.2.1
  exact Nat.le_trans (h (gm g)) (Nat.le_trans h3 (by decide))
theorem smN_le {g : Tg} (w : WG g) {f : Nat → Nat} {B who : Nat} (hw : who < 2 ^ gm g) (hf : ∀ s, s ≤ who → f s ≤ B) : smN g f who ≤ alN g who * B := by
  rw [smN_smP g f hw, show alN g who = alM who (gm g) from rfl, ← wt_all (gst g) who w.2.2.2.2.2.2.2.2.1 (gm g), ← smP_mul]
  refine smP_le fun i hi => ?_
  by_cases c : suM who (gm g) i = true
  · rw [if_pos c, if_pos c]
    exact Nat.mul_le_mul_left _ (hf i (sub_le ((suM_dif hi).mp c)))
  · rw [if_neg c]
    exact Nat.zero_le _
theorem bhV_le {g : Tg} (w : WG g) {tab : Nat → Nat → Nat → Nat} {t left who h : Nat} (hw : who < 2 ^ gm g) (ht : ∀ s, tab left s h ≤ 990000) : bhV g tab t left who h ≤ 990000 := by
  unfold bhV
  split
  · have h1 := smN_le w (f := fun s => tab left s h) (B := 990000) hw fun s _ => ht s
    have h2 := (alN_le g w who).1
    exact Nat.div_le_of_le_mul h1
  · exact ht who
theorem vaM_le {g : Tg} (w : WG g) {tab : Nat → Nat → Nat → Nat} {t who h p x : Nat} (hw : who < 2 ^ gm g) (ht : ∀ s k, tab (t - gho g x) s k ≤ 990000) : vaM g tab t who h p x ≤ 990000 := by
  unfold vaM
  have h1 := bhV_le (t := t) w hw fun s => ht s (clo g (-1) (h ||| 2 ^ x))
  have h2 := bhV_le (t := t) w hw fun s => ht s h
  have h3 := (w.2.2.2.2.2.2.2.2.2.1 p x).1
  refine Nat.div_le_of_le_mul ?_
  have h4 := Nat.mul_le_mul_left (gcl g p x) h1
  have h5 := Nat.mul_le_mul_left (16 - gcl g p x) h2
  have h6 : gcl g p x * 990000 + (16 - gcl g p x) * 990000 = 16 * 990000 := by
    rw [← Nat.add_mul]
    congr 1
    omega
  omega
def oLe (a : Om) : Prop := match a with
  | none => True
  | some b => b.1 ≤ 990000
theorem mxx_le {g : Tg} (w : WG g) {tab : Nat → Nat → Nat → Nat} {t who h p x : Nat} (hx : x < gn g) (hw : who < 2 ^ gm g) (ht : ∀ u s k, u < t → tab u s k ≤ 990000) {a : Om} (ha : oLe a) : oLe (mxx g tab t who h p x a) := by
  unfold mxx
  by_cases c : okM g t who h p x = true
  · rw [if_pos c]
    have h1 : gho g x ≤ t := by
      unfold okM at c
      simp only [Bool.and_eq_true, decide_eq_true_eq] at c
      exact c.2
    have h2 := (w.2.2.2.2.2.1 x).2 hx
    have h3 := vaM_le w (tab := tab) (t := t) (who := who) (h := h) (p := p) (x := x) hw fun s k => ht _ s k (by omega)
    cases a with
    | none => exact h3
    | some b =>
      simp only
      split
      · exact h3
      · exact ha
  · rw [if_neg c]
    exact ha
theorem mxN_le {g : Tg} (w : WG g) {tab : Nat → Nat → Nat → Nat} {t who h : Nat} (hw : who < 2 ^ gm g) (ht : ∀ u s k, u < t → tab u s k ≤ 990000) : oLe (mxN g tab t who h) :=
  itn_inv oLe _ _ trivial fun _ a _ ha => itn_inv oLe _ _ ha fun _ a hx ha => mxx_le w hx hw ht ha
/-- beyond the people there is nobody -/
def valB (g : Tg) (t who h : Nat) : Nat := if who < 2 ^ gm g then valN g t who h else 0
theorem valN_le {g : Tg} (w : WG g) : ∀ n t who h, t < n → who < 2 ^ gm g → valN g t who h ≤ 990000 := by
  intro n
  induction n with
  | zero => intro t _ _ h; omega
  | succ n ih =>
    intro t who h ht hw
    rw [valN_eq w]
    have h0 := worN_le w h
    have hle : oLe (mxN g (valN g) t who h) := by
      refine itn_inv oLe _ _ trivial fun p a _ ha => itn_inv oLe _ _ ha fun x a hx ha => ?_
      have e : mxx g (valN g) t who h p x a = mxx g (valB g) t who h p x a := by
        unfold mxx
        have : vaM g (valN g) t who h p x = vaM g (valB g) t who h p x := by
          unfold vaM bhV
          have s1 : ∀ k, smN g (fun s => valN g (t - gho g x) s k) who = smN g (fun s => valB g (t - gho g x) s k) who := by
            intro k
            refine itn_congr fun s a hs => ?_
            unfold suS1 valB
            by_cases c : dif s who = 0
            · have := sub_le c
              rw [if_pos c, if_pos c]
              simp only
              rw [if_pos (show s < 2 ^ gm g by omega)]
            · rw [if_neg c, if_neg c]
          rw [s1, s1]
          have s2 : ∀ k, valN g (t - gho g x) who k = valB g (t - gho g x) who k := fun k => by unfold valB; rw [if_pos hw]
          rw [s2, s2]
        rw [this]
      rw [e]
      refine mxx_le w hx hw (fun u s k hu => ?_) ha
      unfold valB
      split
      · rename_i hs
        exact ih u s k (by omega) hs
      · omega
    unfold lvN
    cases c : mxN g (valN g) t who h with
    | none => simp only; omega
    | some b =>
      rw [c] at hle
      exact hle
theorem valN_b {g : Tg} (w : WG g) (t : Nat) {who h : Nat} (hw : who < 2 ^ gm g) : valN g t who h ≤ 990000 := valN_le w (t + 1) t who h (by omega) hw
