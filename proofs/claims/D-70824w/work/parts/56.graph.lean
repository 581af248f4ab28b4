/-! GRAPHS: how far, within a set of ten -/
set_option maxRecDepth 100000
def rc (P : Nat → Nat → Bool) (S : Nat → Bool) (x : Nat) : Nat → Nat → Bool
  | 0, y => decide (y = x) && S y
  | n + 1, y => (rc P S x n y || (List.range 10).any fun g => rc P S x n g && P g y) && S y
theorem rc_S {P : Nat → Nat → Bool} {S : Nat → Bool} {x : Nat} : ∀ {n y : Nat}, rc P S x n y = true → S y = true := by
  intro n y h
  cases n with
  | zero => unfold rc at h; rw [Bool.and_eq_true] at h; exact h.2
  | succ n => unfold rc at h; rw [Bool.and_eq_true] at h; exact h.2
theorem rc_mono1 {P : Nat → Nat → Bool} {S : Nat → Bool} {x n y : Nat} (h : rc P S x n y = true) : rc P S x (n + 1) y = true := by
  unfold rc
  rw [h, rc_S h]; rfl
theorem rc_mono {P : Nat → Nat → Bool} {S : Nat → Bool} {x n y k : Nat} (h : rc P S x n y = true) (hk : n ≤ k) : rc P S x k y = true := by
  induction hk with
  | refl => exact h
  | step _ ih => exact rc_mono1 ih
theorem rc_case {P : Nat → Nat → Bool} {S : Nat → Bool} {x n y : Nat} (h : rc P S x (n + 1) y = true) : rc P S x n y = true ∨ ∃ g, g < 10 ∧ rc P S x n g = true ∧ P g y = true := by
  unfold rc at h
  rw [Bool.and_eq_true, Bool.or_eq_true, List.any_eq_true] at h
  rcases h.1 with h | ⟨g, hg, h⟩
  · exact Or.inl h
  · rw [Bool.and_eq_true] at h
    exact Or.inr ⟨g, List.mem_range.mp hg, h.1, h.2⟩
theorem rc_step {P : Nat → Nat → Bool} {S : Nat → Bool} {x n y g : Nat} (hg : g < 10) (h : rc P S x n g = true) (hp : P g y = true) (hs : S y = true) : rc P S x (n + 1) y = true := by
  unfold rc
  rw [Bool.and_eq_true, Bool.or_eq_true, List.any_eq_true]
  refine ⟨Or.inr ⟨g, List.mem_range.mpr hg, ?_⟩, hs⟩
  rw [h, hp]; rfl
theorem rc_0 {P : Nat → Nat → Bool} {S : Nat → Bool} {x : Nat} (h : S x = true) : rc P S x 0 x = true := by
  unfold rc
  rw [h]; simp
theorem rc_add {P : Nat → Nat → Bool} {S : Nat → Bool} {x n y : Nat} (h : rc P S x n y = true) : ∀ {k z : Nat}, rc P S y k z = true → rc P S x (n + k) z = true := by
  intro k
  induction k with
  | zero =>
    intro z hz
    unfold rc at hz
    rw [Bool.and_eq_true, decide_eq_true_eq] at hz
    rw [hz.1]; exact h
  | succ k ih =>
    intro z hz
    rcases rc_case hz with q | ⟨g, hg, q1, q2⟩
    · exact rc_mono1 (ih q)
    · exact rc_step hg (ih q1) q2 (rc_S hz)
theorem rc_sym {P : Nat → Nat → Bool} {S : Nat → Bool} (hP : ∀ a b, a < 10 → b < 10 → P a b = P b a) {x : Nat} (hx : x < 10) : ∀ {n y : Nat}, y < 10 → rc P S x n y = true → rc P S y n x = true := by
  intro n
  induction n with
  | zero =>
    intro y hy h
    have hs := rc_S h
    unfold rc at h
    rw [Bool.and_eq_true, decide_eq_true_eq] at h
    rw [h.1] at hs ⊢
    exact rc_0 hs
  | succ n ih =>
    intro y hy h
    rcases rc_case h with q | ⟨g, hg, q1, q2⟩
    · exact rc_mono1 (ih hy q)
    · have e1 := ih hg q1
      have e2 : rc P S y (0 + 1) g = true := rc_step hy (rc_0 (rc_S h)) (by rw [hP y g hy hg]; exact q2) (rc_S q1)
      have e3 := rc_add e2 e1
      rw [show 0 + 1 + n = n + 1 by omega] at e3
      exact e3
/-! at most nine steps -/
def cn (p : Nat → Bool) (n : Nat) : Nat := fo (fun y c => c + (if p y = true then 1 else 0)) 0 n
theorem cn_s (p : Nat → Bool) (n : Nat) : cn p (n + 1) = cn p n + (if p n = true then 1 else 0) := rfl
theorem cn_le (p : Nat → Bool) : ∀ n, cn p n ≤ n := by
  intro n
  induction n with
  | zero => exact Nat.le_refl _
  | succ n ih => rw [cn_s]; split <;> omega
theorem cn_mono {p q : Nat → Bool} (h : ∀ y, p y = true → q y = true) : ∀ n, cn p n ≤ cn q n := by
  intro n
  induction n with
  | zero => exact Nat.le_refl _
  | succ n ih =>
    rw [cn_s, cn_s]
    by_cases c : p n = true
    · rw [if_pos c, if_pos (h n c)]; omega
    · rw [if_neg c]; omega
theorem cn_lt {p q : Nat → Bool} (h : ∀ y, p y = true → q y = true) {z : Nat} (hp : p z = false) (hq : q z = true) : ∀ n, z < n → cn p n + 1 ≤ cn q n := by
  intro n
  induction n with
  | zero => intro hz; omega
  | succ n ih =>
    intro hz
    rw [cn_s, cn_s]
    by_cases e : z = n
    · subst e
      have := cn_mono h z
      rw [hp, hq, if_pos rfl, if_neg (by decide)]; omega
    · have := ih (by omega)
      by_cases c : p n = true
      · rw [if_pos c, if_pos (h n c)]; omega
      · rw [if_neg c]; omega
theorem rc_stay {P : Nat → Nat → Bool} {S : Nat → Bool} {x n : Nat} (h : ∀ y, y < 10 → rc P S x (n + 1) y = true → rc P S x n y = true) : ∀ k y, y < 10 → rc P S x (n + k) y = true → rc P S x n y = true := by
  intro k
  induction k with
  | zero => intro y _ q; exact q
  | succ k ih =>
    intro y hy q
    rcases rc_case (n := n + k) q with q1 | ⟨g, hg, q1, q2⟩
    · exact ih y hy q1
    · exact h y hy (rc_step hg (ih g hg q1) q2 (rc_S q))
theorem rc_nine {P : Nat → Nat → Bool} {S : Nat → Bool} {x : Nat} (hx : x < 10) {n y : Nat} (hy : y < 10) (h : rc P S x n y = true) : rc P S x 9 y = true := by
  have hSx : S x = true := by
    have : ∀ n y, rc P S x n y = true → S x = true := by
      intro n
      induction n with
      | zero =>
        intro y q
        have hs := rc_S q
        unfold rc at q
        rw [Bool.and_eq_true, decide_eq_true_eq] at q
        rw [q.1] at hs; exact hs
      | succ n ih =>
        intro y q
        rcases rc_case q with q1 | ⟨g, _, q1, _⟩
        · exact ih y q1
        · exact ih g q1
    exact this n y h
  have key : ∀ k, k ≤ 9 → (∃ j, j ≤ k ∧ ∀ z, z < 10 → rc P S x (j + 1) z = true → rc P S x j z = true) ∨ k + 2 ≤ cn (rc P S x (k + 1)) 10 := by
    intro k
    induction k with
    | zero =>
      intro _
      by_cases c : ∃ z, z < 10 ∧ rc P S x 1 z = true ∧ rc P S x 0 z = false
      · obtain ⟨z, hz, c1, c2⟩ := c
        right
        have q1 := cn_lt (p := rc P S x 0) (q := rc P S x 1) (fun y q => rc_mono1 q) c2 c1 10 hz
        have q2 := cn_lt (p := fun _ => false) (q := rc P S x 0) (fun y q => by cases q) (z := x) rfl (rc_0 hSx) 10 hx
        show 2 ≤ cn (rc P S x 1) 10
        omega
      · left
        refine ⟨0, Nat.le_refl _, fun z hz q => ?_⟩
        cases e : rc P S x 0 z with
        | true => rfl
        | false => exact absurd ⟨z, hz, q, e⟩ c
    | succ k ih =>
      intro hk
      rcases ih (by omega) with ⟨j, hj, q⟩ | q
      · exact Or.inl ⟨j, by omega, q⟩
      · by_cases c : ∃ z, z < 10 ∧ rc P S x (k + 1 + 1) z = true ∧ rc P S x (k + 1) z = false
        · obtain ⟨z, hz, c1, c2⟩ := c
          right
          have q1 := cn_lt (p := rc P S x (k + 1)) (q := rc P S x (k + 1 + 1)) (fun y q => rc_mono1 q) c2 c1 10 hz
          omega
        · left
          refine ⟨k + 1, Nat.le_refl _, fun z hz q => ?_⟩
          cases e : rc P S x (k + 1) z with
          | true => rfl
          | false => exact absurd ⟨z, hz, q, e⟩ c
  rcases key 9 (Nat.le_refl _) with ⟨j, hj, q⟩ | q
  · by_cases c : n ≤ 9
    · exact rc_mono h c
    · have := rc_stay q (n - j) y hy (by rw [show j + (n - j) = n by omega]; exact h)
      exact rc_mono this hj
  · have := cn_le (rc P S x (9 + 1)) 10
    omega
/-! how far -/
def fd (P : Nat → Nat → Bool) (S : Nat → Bool) (x y : Nat) : Nat := ((List.range 10).find? (fun n => rc P S x n y)).getD 10
theorem fd_ok (P : Nat → Nat → Bool) (S : Nat → Bool) (x y : Nat) : (fd P S x y < 10 ∧ rc P S x (fd P S x y) y = true ∧ ∀ k, k < fd P S x y → rc P S x k y = false) ∨ (fd P S x y = 10 ∧ ∀ k, k < 10 → rc P S x k y = false) := by
  unfold fd
  rcases first_of (fun n => rc P S x n y) 10 with ⟨-, hl⟩ | ⟨t, ht, hh, hl, -⟩
  · right
    have : (List.range 10).find? (fun n => rc P S x n y) = none := by
      rw [List.find?_eq_none]
      intro i hi
      rw [hl i (List.mem_range.mp hi)]; decide
    rw [this]
    exact ⟨rfl, hl⟩
  · left
    have : (List.range 10).find? (fun n => rc P S x n y) = some t := by
      rw [List.find?_range_eq_some]
      refine ⟨hh, List.mem_range.mpr ht, fun j hj => ?_⟩
      have := hl j hj
      rw [this]; rfl
    rw [this]
    exact ⟨ht, hh, hl⟩
theorem fd_sym {P : Nat → Nat → Bool} {S : Nat → Bool} (hP : ∀ a b, a < 10 → b < 10 → P a b = P b a) {x y : Nat} (hx : x < 10) (hy : y < 10) : fd P S x y = fd P S y x := by
  rcases fd_ok P S x y with ⟨a1, a2, a3⟩ | ⟨a1, a2⟩
  · have h1 := rc_sym hP hx hy a2
    rcases fd_ok P S y x with ⟨b1, b2, b3⟩ | ⟨b1, b2⟩
    · have h2 := rc_sym hP hy hx b2
      rcases Nat.lt_trichotomy (fd P S x y) (fd P S y x) with q | q | q
      · rw [b3 _ q] at h1; exact absurd h1 (by decide)
      · exact q
      · rw [a3 _ q] at h2; exact absurd h2 (by decide)
    · rw [b2 _ a1] at h1; exact absurd h1 (by decide)
  · rcases fd_ok P S y x with ⟨b1, b2, b3⟩ | ⟨b1, b2⟩
    · have h2 := rc_sym hP hy hx b2
      rw [a2 _ b1] at h2; exact absurd h2 (by decide)
    · omega
