/-! PLAIN BASE: loops, reads and writes at natural indices, the relation between the two systems' memories -/
set_option maxRecDepth 100000
theorem it_run {σ β : Type} {F : (σ → Option β) → σ → Option β} (st : Nat → σ) (t : Nat) {res : β} (hs : ∀ i, i < t → ∀ rec, F rec (st i) = rec (st (i + 1))) (he : ∀ rec, F rec (st t) = some res) : ∀ (n j : Nat), j ≤ t → t - j < n → am_it F n (st j) = some res := by
  intro n
  induction n with
  | zero => intro j _ h; omega
  | succ n ih =>
    intro j hj h
    show F (am_it F n) (st j) = some res
    by_cases e : j = t
    · subst e; exact he _
    · rw [hs j (by omega)]
      exact ih (j + 1) (by omega) (by omega)
theorem it_run0 {σ β : Type} {F : (σ → Option β) → σ → Option β} (st : Nat → σ) (t : Nat) {res : β} (ht : t < 100001) (hs : ∀ i, i < t → ∀ rec, F rec (st i) = rec (st (i + 1))) (he : ∀ rec, F rec (st t) = some res) : am_it F am_fuel (st 0) = some res :=
  it_run st t hs he am_fuel 0 (Nat.zero_le _) (by show t - 0 < 100001; omega)
/-- a fold over 0 .. n - 1 -/
def fo {α : Type} (f : Nat → α → α) (a : α) : Nat → α
  | 0 => a
  | n + 1 => f n (fo f a n)
theorem fo_congr {α : Type} {f g : Nat → α → α} {a : α} {n : Nat} (h : ∀ i, i < n → ∀ x, f i x = g i x) : fo f a n = fo g a n := by
  induction n with
  | zero => rfl
  | succ n ih =>
    show f n (fo f a n) = g n (fo g a n)
    rw [ih (fun i hi => h i (by omega)), h n (by omega)]
theorem fo_inv {α : Type} {f : Nat → α → α} {a : α} (I : Nat → α → Prop) (N : Nat) (h0 : I 0 a) (hs : ∀ i x, i < N → I i x → I (i + 1) (f i x)) : ∀ n, n ≤ N → I n (fo f a n) := by
  intro n
  induction n with
  | zero => intro _; exact h0
  | succ n ih => intro h; exact hs n _ (by omega) (ih (by omega))
/-- a loop whose state is (what is gathered, the counter) -/
theorem it_fo {α β : Type} {F : (α × Int32 → Option β) → α × Int32 → Option β} (f : Nat → α → α) (a : α) (N : Nat) (res : α → β) (I : Nat → α → Prop) (hN : N < 100001) (h0 : I 0 a) (hs : ∀ i x, i < N → I i x → (∀ rec, F rec (x, nI i) = rec (f i x, nI (i + 1))) ∧ I (i + 1) (f i x)) (he : ∀ x, I N x → ∀ rec, F rec (x, nI N) = some (res x)) : am_it F am_fuel (a, (0 : Int32)) = some (res (fo f a N)) := by
  have hI := fo_inv (f := f) (a := a) I N h0 (fun i x hi hx => (hs i x hi hx).2)
  exact it_run0 (fun i => (fo f a i, nI i)) N hN (fun i hi rec => (hs i _ hi (hI i (by omega))).1 rec) (fun rec => he _ (hI N (Nat.le_refl _)) rec)
/-- the same, the counter ahead -/
theorem it_of {α β : Type} {F : (Int32 × α → Option β) → Int32 × α → Option β} (f : Nat → α → α) (a : α) (N : Nat) (res : α → β) (I : Nat → α → Prop) (hN : N < 100001) (h0 : I 0 a) (hs : ∀ i x, i < N → I i x → (∀ rec, F rec (nI i, x) = rec (nI (i + 1), f i x)) ∧ I (i + 1) (f i x)) (he : ∀ x, I N x → ∀ rec, F rec (nI N, x) = some (res x)) : am_it F am_fuel ((0 : Int32), a) = some (res (fo f a N)) := by
  have hI := fo_inv (f := f) (a := a) I N h0 (fun i x hi hx => (hs i x hi hx).2)
  exact it_run0 (fun i => (nI i, fo f a i)) N hN (fun i hi rec => (hs i _ hi (hI i (by omega))).1 rec) (fun rec => he _ (hI N (Nat.le_refl _)) rec)
/-- the counter alone -/
theorem it_n {β : Type} {F : (Int32 → Option β) → Int32 → Option β} (t : Nat) {res : β} (ht : t < 100001) (hs : ∀ i, i < t → ∀ rec, F rec (nI i) = rec (nI (i + 1))) (he : ∀ rec, F rec (nI t) = some res) : am_it F am_fuel (0 : Int32) = some res :=
  it_run0 (fun i => nI i) t ht hs he
theorem nI_add1 (i : Nat) : nI i + 1 = nI (i + 1) := nI_1 i
theorem rd_n {f : Nat → Int32} {N i : Nat} (h : i < N) (hN : N < 2 ^ 31) : am_rd f N (nI i) = some (f i) := by
  unfold am_rd
  rw [if_neg (nI_in h hN), nI_clamp (by omega)]
theorem wr_n {M : am_M} {j k N i : Nat} {v : Int32} (h : i < N) (hN : N < 2 ^ 31) : am_wr M j k N (nI i) v = some (am_up M j k i v) := by
  unfold am_wr
  rw [if_neg (nI_in h hN), nI_clamp (by omega)]
theorem lit_le {n i : Nat} (hn : n < 2 ^ 31) (hi : i < 2 ^ 31) : (nI n ≤ nI i) = (n ≤ i) := propext (nI_leI hn hi)
theorem lit_lt {n i : Nat} (hn : n < 2 ^ 31) (hi : i < 2 ^ 31) : (nI n < nI i) = (n < i) := propext (nI_ltI hn hi)
theorem lit_eq {n i : Nat} (hn : n < 2 ^ 31) (hi : i < 2 ^ 31) : (nI n = nI i) = (n = i) := propext (nI_eq hn hi)
/-- the bit k of a set, as both systems ask for it -/
def hb (s k : Int32) : Bool := decide ((s >>> (k &&& 31)) &&& 1 = 1)
theorem holds_hb (s k : Int32) : fX0_holds s k = if hb s k = true then 1 else 0 := by
  unfold fX0_holds hb
  by_cases h : (s >>> (k &&& 31)) &&& 1 = 1
  · simp [h]
  · simp [h]
theorem has_hb (s k : Int32) : fX2_has s k = if hb s k = true then 1 else 0 := by
  unfold fX2_has hb
  by_cases h : (s >>> (k &&& 31)) &&& 1 = 1
  · simp [h]
  · simp [h]
theorem isIn_le (a b c : Int64) : fX0_isIn a b c = if b ≤ a ∧ a ≤ c then 1 else 0 := by
  unfold fX0_isIn
  have h1 : (lg_cmp a b < 0) ↔ ¬ b ≤ a := by
    rw [← lg_cmp_ge a b]
    exact (Int32.not_le).symm
  by_cases h : b ≤ a
  · rw [if_neg (fun z => (h1.mp z) h)]
    by_cases h2 : a ≤ c
    · rw [if_neg, if_pos ⟨h, h2⟩]
      rw [Int32.not_lt]
      have := lg_cmp_ge c a
      unfold lg_cmp
      split
      · next hgt => exact absurd h2 (by simp only [gt_iff_lt, Int64.lt_iff_toInt_lt, Int64.le_iff_toInt_le] at *; omega)
      · split <;> decide
    · rw [if_pos, if_neg (fun z => h2 z.2)]
      unfold lg_cmp
      rw [if_pos]
      · decide
      · simp only [gt_iff_lt, Int64.lt_iff_toInt_lt, Int64.le_iff_toInt_le] at *; omega
  · rw [if_pos (h1.mpr h), if_neg (fun z => h z.1)]
theorem i64_le (a b : Int32) : (a.toInt64 ≤ b.toInt64) = (a ≤ b) := by
  apply propext
  rw [Int64.le_iff_toInt_le, Int32.le_iff_toInt_le]
  simp
theorem in_le (a b c : Int32) : fX2_in a b c = if b ≤ a ∧ a ≤ c then 1 else 0 := by
  unfold fX2_in
  by_cases h : b ≤ a
  · rw [if_neg (fun z => absurd h (Int32.not_le.mpr z))]
    by_cases h2 : a ≤ c
    · rw [if_neg (fun z => absurd h2 (Int32.not_le.mpr z)), if_pos ⟨h, h2⟩]
    · rw [if_pos (Int32.not_le.mp h2), if_neg (fun z => h2 z.2)]
  · rw [if_pos (Int32.not_le.mp h), if_neg (fun z => h z.1)]
