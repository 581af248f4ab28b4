/-! OPERATION: cold -/
set_option maxRecDepth 100000
theorem cmp0 {y : Nat} (hy : y < 2 ^ 63) : (lg_cmp (lN y) (0 : Int64) = 0) = (y = 0) := by
  apply propext
  have e : (lN y = (0 : Int64)) ↔ y = 0 := pk_lEQ (a := y) (b := 0) hy (by omega)
  constructor
  · intro h
    apply e.mp
    unfold lg_cmp at h
    by_cases h1 : lN y > 0
    · rw [if_pos h1] at h; exact absurd h (by decide)
    · rw [if_neg h1] at h
      by_cases h2 : lN y = 0
      · exact h2
      · rw [if_neg h2] at h; exact absurd h (by decide)
  · intro h
    subst h
    decide
theorem gcd_it : ∀ (k f x y : Nat), y < 2 ^ k → k ≤ 63 → x < 2 ^ 63 → 2 * k < f → am_it fX0_lowest_L6 f (lN x, lN y) = some (lN (Nat.gcd x y), lN 0) := by
  have one : ∀ (f x y : Nat), y < 2 ^ 63 → x < 2 ^ 63 → am_it fX0_lowest_L6 (f + 1) (lN x, lN y) = if y = 0 then some (lN x, lN 0) else am_it fX0_lowest_L6 f (lN y, lN (x % y)) := by
    intro f x y hy hx
    show fX0_lowest_L6 (am_it fX0_lowest_L6 f) (lN x, lN y) = _
    unfold fX0_lowest_L6
    simp only [cmp0 hy]
    by_cases c : y = 0
    · rw [if_pos c, if_pos c, c]
    · rw [if_neg c, if_neg c, if_neg (show ¬ lN y = 0 from fun q => c ((pk_lEQ (a := y) (b := 0) hy (by omega)).mp q))]
      rw [show jv_lrem (lN x) (lN y) = lN (x % y) from pk_lRem hx (by omega) hy]
  intro k
  induction k with
  | zero =>
    intro f x y hy _ hx hf
    obtain ⟨f, rfl⟩ : ∃ g, f = g + 1 := ⟨f - 1, by omega⟩
    have : y = 0 := by omega
    subst this
    rw [one f x 0 (by omega) hx, if_pos rfl, Nat.gcd_zero_right]
  | succ k ih =>
    intro f x y hy hk hx hf
    obtain ⟨f, rfl⟩ : ∃ g, f = g + 2 := ⟨f - 2, by omega⟩
    have hy63 : y < 2 ^ 63 := Nat.lt_of_lt_of_le hy (Nat.pow_le_pow_right (by omega) hk)
    rw [one (f + 1) x y hy63 hx]
    by_cases c : y = 0
    · rw [if_pos c, c, Nat.gcd_zero_right]
    · rw [if_neg c]
      have hr : x % y < y := Nat.mod_lt _ (by omega)
      rw [one f y (x % y) (by omega) hy63]
      have g1 : Nat.gcd x y = Nat.gcd y (x % y) := by rw [Nat.gcd_comm x y, Nat.gcd_rec y x, Nat.gcd_comm]
      by_cases c2 : x % y = 0
      · rw [if_pos c2, g1, c2, Nat.gcd_zero_right]
      · rw [if_neg c2]
        have g2 : Nat.gcd y (x % y) = Nat.gcd (x % y) (y % (x % y)) := by rw [Nat.gcd_comm y (x % y), Nat.gcd_rec (x % y) y, Nat.gcd_comm]
        rw [g1, g2]
        have h1 : y % (x % y) < x % y := Nat.mod_lt _ (by omega)
        have h2 := Nat.div_add_mod y (x % y)
        have h3 : 1 ≤ y / (x % y) := (Nat.le_div_iff_mul_le (by omega)).mpr (by omega)
        have h4 : x % y * 1 ≤ x % y * (y / (x % y)) := Nat.mul_le_mul_left _ h3
        refine ih f (x % y) (y % (x % y)) ?_ (by omega) (by omega) (by omega)
        have h5 : 2 ^ (k + 1) = 2 * 2 ^ k := by rw [Nat.pow_succ]; omega
        omega
theorem gcd_run {x y : Nat} (hx : x < 2 ^ 63) (hy : y < 2 ^ 63) : am_it fX0_lowest_L6 am_fuel (lN x, lN y) = some (lN (Nat.gcd x y), lN 0) := gcd_it 63 am_fuel x y hy (by omega) hx (by show 126 < 100001; omega)
theorem times_eq (a : Nat) {n : Nat} (hn : n < 100) : fX0_times (lN a) (nI n) = some (lN (a ^ n)) := by
  unfold fX0_times
  rw [show ((1 : Int64), (0 : Int32)) = (lN (a ^ 0), nI 0) from rfl, it_run0 (F := fX0_times_L5 (lN a) (nI n)) (fun i => (lN (a ^ i), nI i)) n (res := (lN (a ^ n), nI n)) (by omega) (fun i hi rec => ?_) (fun rec => ?_), Option.bind_some]
  · unfold fX0_times_L5
    simp only [if_neg (nI_ge hi (show n < 2 ^ 31 by omega)), lN_mul, nI_add1, Nat.pow_succ]
  · unfold fX0_times_L5
    rw [if_pos (Int32.le_refl _)]
theorem power_times : fX2_power = fX0_times := rfl
def cntI (m : Nat → Nat → Int32) (g : Int32) : Nat := fo (fun k s => s + (if (sg m k && decide (m 10 k = g)) = true then 1 else 0)) 0 8
theorem cntI_le (m : Nat → Nat → Int32) (g : Int32) : cntI m g ≤ 8 := by
  have := fo_inv (f := fun k s => s + (if (sg m k && decide (m 10 k = g)) = true then 1 else 0)) (a := 0) (fun i x => x ≤ i) 8 (Nat.le_refl _) (fun i x _ h => by
    show x + (if _ then 1 else 0) ≤ i + 1
    split <;> omega) 8 (Nat.le_refl _)
  exact this
theorem cntI_fo (m : Nat → Nat → Int32) (g : Int32) : fo (fun k (s : Int32) => s + b1 (sg m k && decide (m 10 k = g))) 0 8 = nI (cntI m g) := by
  have key : ∀ n, n ≤ 8 → fo (fun k (s : Int32) => s + b1 (sg m k && decide (m 10 k = g))) 0 n = nI (fo (fun k s => s + (if (sg m k && decide (m 10 k = g)) = true then 1 else 0)) 0 n) := by
    intro n
    induction n with
    | zero => intro _; exact nI_0.symm
    | succ n ih =>
      intro h
      show fo _ 0 n + _ = nI (_ + _)
      rw [ih (by omega), ← nI_add]
      cases (sg m n && decide (m 10 n = g)) <;> rfl
  exact key 8 (Nat.le_refl _)
theorem singIn_eq (M : am_M) (g : Int32) : fX0_singingIn M g = some (nI (cntI (M 2) g)) := by
  unfold fX0_singingIn
  rw [it_fo (F := fX0_singingIn_L4 M g) (fun k (s : Int32) => s + b1 (sg (M 2) k && decide (M 2 10 k = g))) 0 8 (fun x => (x, nI 8)) (fun _ _ => True) (by omega) trivial (fun i x hi _ => ⟨fun rec => ?_, trivial⟩) (fun x _ rec => ?_), Option.bind_some, cntI_fo]
  · unfold fX0_singingIn_L4
    simp only [if_neg (n8 hi), sings_eq hi, rd8 hi, Option.bind_some, ite_b1, nI_add1]
    cases sg (M 2) i with
    | false => simp [b1]
    | true =>
      by_cases c : M 2 10 i = g
      · simp [b1, c]
      · simp [b1, c]
  · unfold fX0_singingIn_L4
    simp only [if_pos p8]
theorem singInM_eq {N : am_M} {m : Nat → Nat → Int32} (hr : rel m (nowv (N 1))) (g : Int32) : am_it (fX2_cold_L65 g N) am_fuel ((0 : Int32), (0 : Int32)) = some (nI (cntI m g), nI 8) := by
  rw [← cntI_fo]
  refine it_fo (F := fX2_cold_L65 g N) (fun k (s : Int32) => s + b1 (sg m k && decide (m 10 k = g))) 0 8 (fun x => (x, nI 8)) (fun _ _ => True) (by omega) trivial (fun i x hi _ => ⟨fun rec => ?_, trivial⟩) (fun x _ rec => ?_)
  · unfold fX2_cold_L65
    simp only [if_neg (n8 hi), singsM_eq hr hi, Option.bind_some, ite_b1, nI_add1]
    cases (sg m i && decide (m 10 i = g)) <;> simp [b1]
  · unfold fX2_cold_L65
    simp only [if_pos p8]
/-- lowest terms of both -/
theorem low_eq {s a : Nat} (hs : s < 2 ^ 63) (ha : a < 2 ^ 63) (h0 : 0 < a) (p : Int32) (N : am_M) : ∃ r, fX0_lowest (lN s) (lN a) p = some r ∧ (Option.bind (am_it fX2_cold_L187 am_fuel (lN s, lN a)) fun (q : Int64 × Int64) => if p = 0 then (if q.1 = 0 then none else some (lN s / q.1, N)) else (if q.1 = 0 then none else some (lN a / q.1, N))) = some (r, N) := by
  have hg : 0 < Nat.gcd s a := Nat.gcd_pos_of_pos_right _ h0
  have hg2 : Nat.gcd s a ≤ a := Nat.gcd_le_right _ h0
  have ne : ¬ lN (Nat.gcd s a) = 0 := fun q => by
    have := (pk_lEQ (a := Nat.gcd s a) (b := 0) (by omega) (by omega)).mp q
    omega
  unfold fX0_lowest
  rw [gcd_run ha hs, Nat.gcd_comm a s, Option.bind_some, show fX2_cold_L187 = fX0_lowest_L6 from rfl, gcd_run hs ha, Option.bind_some]
  simp only [if_neg ne]
  by_cases c : p = 0
  · simp only [if_pos c, Option.bind_some]
    exact ⟨_, rfl, rfl⟩
  · simp only [if_neg c, Option.bind_some]
    exact ⟨_, rfl, rfl⟩
theorem op_cold {L : Nat → Bool} {M : am_M} (h : Inv L M) (a b c d e : Int32) : ∃ r M2, fX0_cold M a b c d e = some r ∧ fX2_cold M a b c d e = some (r, M2) ∧ Inv L M2 := by
  unfold fX0_cold fX2_cold
  rw [isGal_in, isGal2_in, in_0_10, in_0_9, isEnd_in, isEnd_in]
  by_cases g1 : fX2_in a 0 9 = 0
  · exact ⟨_, M, by rw [if_pos g1], by rw [if_pos g1], h⟩
  by_cases g2 : fX2_in b 0 10 = 0
  · exact ⟨_, M, by rw [if_neg g1, if_pos g2], by rw [if_neg g1, if_pos g2], h⟩
  by_cases g3 : fX2_in c 0 9 = 0
  · exact ⟨_, M, by rw [if_neg g1, if_neg g2, if_pos g3], by rw [if_neg g1, if_neg g2, if_pos g3], h⟩
  by_cases g4 : fX2_in d 0 1 = 0
  · exact ⟨_, M, by rw [if_neg g1, if_neg g2, if_neg g3, if_pos g4], by rw [if_neg g1, if_neg g2, if_neg g3, if_pos g4], h⟩
  by_cases g5 : fX2_in e 0 1 = 0
  · exact ⟨_, M, by rw [if_neg g1, if_neg g2, if_neg g3, if_neg g4, if_pos g5], by rw [if_neg g1, if_neg g2, if_neg g3, if_neg g4, if_pos g5], h⟩
  rw [if_neg g1, if_neg g2, if_neg g3, if_neg g4, if_neg g5, if_neg g1, if_neg g2, if_neg g3, if_neg g4, if_neg g5]
  obtain ⟨t, ht, rfl⟩ := in_n (n := 10) (by omega) g2
  obtain ⟨n, hn, rfl⟩ := in_n (n := 9) (by omega) g3
  obtain ⟨w, hw, rfl⟩ := in_n (n := 1) (by omega) g4
  have hr := asn_rel h.2.1
  have hI : Inv L (asnM M) := Inv_eqc h (asn_eqc M)
  have hc := cntI_le (M 2) a
  generalize hC : cntI (M 2) a = k at hc
  have e1 : ((10 : Int32) - nI t).toInt64 = lN (10 - t) := by
    rw [show (10 : Int32) = nI 10 from rfl, pk_sub (by omega), nI_l (by omega)]
  have e2 : (10 : Int64) - (nI t).toInt64 = lN (10 - t) := by
    rw [nI_l (by omega), show (10 : Int64) = lN 10 from rfl, lN_sub (by omega)]
  have hp10 : 10 ^ n ≤ 10 ^ 9 := Nat.pow_le_pow_right (by omega) hn
  have hpt : (10 - t) ^ n ≤ 10 ^ n := Nat.pow_le_pow_left (by omega) n
  have hpos : 0 < 10 ^ n := Nat.pow_pos (by omega)
  have em : nI n * nI k = nI (n * k) := pk_mul n k
  have hnk : n * k ≤ 9 * 8 := Nat.mul_le_mul hn hc
  rw [singIn_eq, asNow_eq, Option.bind_some, Option.bind_some, singInM_eq hr, Option.bind_some, hC, e1, e2, power_times]
  simp only [show (10 : Int64) = lN 10 from rfl, times_eq _ (show n < 100 by omega), times_eq _ (show k < 100 by omega), Option.bind_some, em, nI_l (show k < 2 ^ 31 by omega), lN_mul, lN_sub hpt]
  rcases (show w = 0 ∨ w = 1 by omega) with rfl | rfl
  · rw [if_neg (show ¬ nI 0 = 1 by decide), if_pos (show nI 0 = 0 from rfl)]
    simp only [if_pos (show nI 0 = (0 : Int32) from rfl), Option.bind_some]
    by_cases c1 : nI (n * k) ≤ (18 : Int32)
    · have c2 : n * k ≤ 18 := by
        rw [show (18 : Int32) = nI 18 from rfl, lit_le (by omega) (by omega)] at c1
        exact c1
      rw [if_pos c1, if_pos c1]
      have hA : (10 ^ n) ^ k ≤ 10 ^ 18 := by
        rw [← Nat.pow_mul]
        exact Nat.pow_le_pow_right (by omega) c2
      have hB : (10 ^ n - (10 - t) ^ n) ^ k ≤ (10 ^ n) ^ k := Nat.pow_le_pow_left (by omega) k
      have hA0 : 0 < (10 ^ n) ^ k := Nat.pow_pos hpos
      rw [lN_sub hB]
      obtain ⟨r, q1, q2⟩ := low_eq (s := (10 ^ n) ^ k - (10 ^ n - (10 - t) ^ n) ^ k) (a := (10 ^ n) ^ k) (by omega) (by omega) hA0 e (asnM M)
      refine ⟨r, asnM M, ?_, q2, hI⟩
      rw [q1, Option.bind_some]
    · rw [if_neg c1, if_neg c1]
      exact ⟨_, asnM M, rfl, rfl, hI⟩
  · rw [if_pos (show nI 1 = 1 from rfl), if_neg (show ¬ nI 1 = 0 by decide)]
    simp only [if_neg (show ¬ nI 1 = (0 : Int32) by decide), Option.bind_some]
    have hB : k * (10 - t) ^ n ≤ 8 * 10 ^ 9 := Nat.mul_le_mul hc (Nat.le_trans hpt hp10)
    obtain ⟨r, q1, q2⟩ := low_eq (s := k * (10 - t) ^ n) (a := 10 ^ n) (by omega) (by omega) hpos e (asnM M)
    refine ⟨r, asnM M, ?_, q2, hI⟩
    rw [q1, Option.bind_some]
