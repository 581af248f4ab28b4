/-! HOW FAR, in the component -/
set_option maxRecDepth 100000
def gpw (p : Nat → Nat) (w : Nat) : Nat := fo (fun g v => if w.testBit g = true then v ||| p g else v) w 10
theorem gp_bit {c : Nat → Bool} {p : Nat → Nat} {a : Nat} (y : Nat) : ∀ n, (fo (fun g v => if c g = true then v ||| p g else v) a n).testBit y = (a.testBit y || (List.range n).any fun g => c g && (p g).testBit y) := by
  intro n
  induction n with
  | zero => simp [fo]
  | succ n ih =>
    show (if c n = true then _ ||| p n else _).testBit y = _
    rw [List.range_succ, List.any_append]
    by_cases h : c n = true
    · rw [if_pos h, Nat.testBit_or, ih]
      simp [h, Bool.or_assoc]
    · rw [if_neg h, ih]
      simp [h]
theorem gpw_lt {p : Nat → Nat} (hp : ∀ g, g < 10 → p g < 1024) {w : Nat} (hw : w < 1024) : ∀ n, n ≤ 10 → fo (fun g v => if w.testBit g = true then v ||| p g else v) w n < 1024 := by
  intro n
  induction n with
  | zero => intro _; exact hw
  | succ n ih =>
    intro h
    show (if w.testBit n = true then _ ||| p n else _) < 1024
    split
    · exact Nat.or_lt_two_pow (n := 10) (ih (by omega)) (hp n (by omega))
    · exact ih (by omega)
def nst (p : Nat → Nat) (σ x : Nat) : Nat → Nat
  | 0 => 2 ^ x &&& σ
  | n + 1 => gpw p (nst p σ x n) &&& σ
theorem nst_lt {p : Nat → Nat} {σ x : Nat} (hσ : σ < 1024) : ∀ n, nst p σ x n < 1024 := by
  intro n
  cases n with
  | zero => exact Nat.lt_of_le_of_lt Nat.and_le_right hσ
  | succ n => exact Nat.lt_of_le_of_lt Nat.and_le_right hσ
theorem bit10 {s : Nat} (hs : s < 1024) {y : Nat} (h : s.testBit y = true) : y < 10 := by
  by_cases q : y < 10
  · exact q
  · have : s.testBit y = false := Nat.testBit_lt_two_pow (Nat.lt_of_lt_of_le hs (show 2 ^ 10 ≤ 2 ^ y from Nat.pow_le_pow_right (by omega) (by omega)))
    rw [this] at h; exact absurd h (by decide)
theorem nst_bit {p : Nat → Nat} {σ x : Nat} (hσ : σ < 1024) : ∀ n y, (nst p σ x n).testBit y = rc (fun g h => (p g).testBit h) (fun h => σ.testBit h) x n y := by
  intro n
  induction n with
  | zero =>
    intro y
    unfold nst rc
    rw [Nat.testBit_and, Nat.testBit_two_pow]
    congr 1
    rw [Bool.eq_iff_iff]
    simp only [decide_eq_true_eq]
    exact eq_comm
  | succ n ih =>
    intro y
    unfold nst rc gpw
    rw [Nat.testBit_and, gp_bit (c := fun g => (nst p σ x n).testBit g), ih y]
    simp only [ih]
theorem gpw_loop {M : am_M} {p : Nat → Nat} (hp : ∀ g, g < 10 → p g < 1024) (hM : ∀ g, g < 10 → M 2 0 g = nI (p g)) {w : Nat} (hw : w < 1024) (z : Int32) : am_it (fX0_farIn_L36 M (nI w, z)) am_fuel (nI w, (0 : Int32)) = some (nI (gpw p w), nI 10) := by
  have key : ∀ n, n ≤ 10 → fo (fun g (v : Int32) => v ||| (if w.testBit g = true then nI (p g) else 0)) (nI w) n = nI (fo (fun g v => if w.testBit g = true then v ||| p g else v) w n) := by
    intro n
    induction n with
    | zero => intro _; rfl
    | succ n ih =>
      intro h
      have hl := gpw_lt hp hw n (by omega)
      have hp' := hp n (by omega)
      show _ ||| _ = nI (if w.testBit n = true then _ else _)
      rw [ih (by omega)]
      by_cases c : w.testBit n = true
      · rw [if_pos c, if_pos c, nI_or (by omega) (by omega)]
      · rw [if_neg c, if_neg c]
        have q := nI_or (a := fo (fun g v => if w.testBit g = true then v ||| p g else v) w n) (b := 0) (by omega) (by omega)
        rw [Nat.or_zero] at q
        exact q
  unfold gpw
  rw [← key 10 (Nat.le_refl _)]
  refine it_fo (F := fX0_farIn_L36 M (nI w, z)) (fun g (v : Int32) => v ||| (if w.testBit g = true then nI (p g) else 0)) (nI w) 10 (fun x => (x, nI 10)) (fun _ _ => True) (by omega) trivial (fun i x hi _ => ⟨fun rec => ?_, trivial⟩) (fun x _ rec => ?_)
  · unfold fX0_farIn_L36
    simp only [if_neg (n10 hi), holds_hb, hb_bit (show w < 2 ^ 31 by omega) (show i < 31 by omega), rd10 hi, Option.bind_some, nI_add1, hM i hi]
    cases w.testBit i <;> simp
  · unfold fX0_farIn_L36
    simp only [if_pos p10]
def frI (n : Nat) : Int32 := if n < 10 then nI n else -6
theorem far_x0 {M : am_M} {p : Nat → Nat} (hp : ∀ g, g < 10 → p g < 1024) (hM : ∀ g, g < 10 → M 2 0 g = nI (p g)) {σ x y : Nat} (hσ : σ < 1024) (hx : x < 10) (hy : y < 10) : fX0_farIn M (nI σ) (nI x) (nI y) = some (frI (fd (fun g h => (p g).testBit h) (fun h => σ.testBit h) x y)) := by
  have hpx : 2 ^ x < 1024 := Nat.pow_lt_pow_right (show 1 < 2 by omega) hx
  have e0 : ((1 : Int32) <<< (nI x &&& 31)) &&& nI σ = nI (nst p σ x 0) := by
    rw [one_shl (by omega), nI_and (by omega) (by omega)]
    rfl
  have step : ∀ n, n < 10 → ∀ rec, fX0_farIn_L10 M (nI σ) (nI y) rec (nI (nst p σ x n), nI n) = if rc (fun g h => (p g).testBit h) (fun h => σ.testBit h) x n y = true then some (.inl (nI n)) else rec (nI (nst p σ x (n + 1)), nI (n + 1)) := by
    intro n hn rec
    have hl := nst_lt (p := p) (x := x) hσ n
    have hg := gpw_lt hp hl 10 (Nat.le_refl _)
    unfold fX0_farIn_L10
    simp only [if_neg (n10 hn), holds_hb, hb_bit (show nst p σ x n < 2 ^ 31 by omega) (show y < 31 by omega), nst_bit hσ, gpw_loop hp hM hl, Option.bind_some, nI_add1]
    rw [nI_and (show gpw p (nst p σ x n) < 2 ^ 32 from Nat.lt_trans hg (by decide)) (by omega)]
    cases rc (fun g h => (p g).testBit h) (fun h => σ.testBit h) x n y <;> rfl
  unfold fX0_farIn
  rw [e0]
  rcases fd_ok (fun g h => (p g).testBit h) (fun h => σ.testBit h) x y with ⟨a1, a2, a3⟩ | ⟨a1, a2⟩
  · have := it_run0 (F := fX0_farIn_L10 M (nI σ) (nI y)) (fun n => (nI (nst p σ x n), nI n)) _ (res := .inl (nI (fd (fun g h => (p g).testBit h) (fun h => σ.testBit h) x y))) (show fd (fun g h => (p g).testBit h) (fun h => σ.testBit h) x y < 100001 by omega) (fun i hi rec => by rw [step i (by omega), a3 i hi]; rfl) (fun rec => by rw [step _ a1, a2]; rfl)
    rw [show (0 : Int32) = nI 0 from rfl, this, Option.bind_some]
    unfold frI
    rw [if_pos a1]
    rfl
  · have := it_run0 (F := fX0_farIn_L10 M (nI σ) (nI y)) (fun n => (nI (nst p σ x n), nI n)) 10 (res := .inr (nI (nst p σ x 10), nI 10)) (by omega) (fun i hi rec => by rw [step i (by omega), a2 i hi]; rfl) (fun rec => by unfold fX0_farIn_L10; simp only [if_pos p10])
    rw [show (0 : Int32) = nI 0 from rfl, this, Option.bind_some]
    unfold frI
    rw [if_neg (by omega)]
    rfl
