/-! OPERATION: listen, the outer loops -/
set_option maxRecDepth 100000
def mo (m : Nat → Nat → Int32) (g : Nat) : Nat := (cs m g 1000).1
theorem mo_le (m : Nat → Nat → Int32) (g : Nat) : mo m g ≤ 1000 := (cs_le m g 1000).1
def bl (m : Nat → Nat → Int32) : Nat → Nat × Nat
  | 0 => (0, mo m 0)
  | n + 1 => (if mo m (n + 1) < (bl m n).2 then n + 1 else (bl m n).1, if mo m (n + 1) < (bl m n).2 then mo m (n + 1) else (bl m n).2)
theorem bl_le (m : Nat → Nat → Int32) : ∀ n, (bl m n).2 ≤ 1000 ∧ (bl m n).1 ≤ n := by
  intro n
  induction n with
  | zero => exact ⟨mo_le m 0, Nat.le_refl _⟩
  | succ n ih =>
    have := mo_le m (n + 1)
    unfold bl
    refine ⟨?_, ?_⟩
    · show (if _ then _ else _) ≤ 1000
      split <;> omega
    · show (if mo m (n + 1) < (bl m n).2 then n + 1 else (bl m n).1) ≤ n + 1
      split
      · exact Nat.le_refl _
      · exact Nat.le_succ_of_le ih.2
theorem list_x0 {M : am_M} (hw : wf (M 2)) : ∀ (k j : Nat) (o : Nat → Nat → Int32), j + k = 9 → (∀ z, z < 100 → o 16 z = frI (fm (M 2) (z / 10) (z % 10))) → ∀ f, k < f → ∃ o', am_it fX0_listen_L25 f (nI (bl (M 2) j).1, nI (bl (M 2) j).2, nI (j + 1), va_up M 0 o) = some (nI (bl (M 2) 9).1, nI (bl (M 2) 9).2, nI 10, va_up M 0 o') ∧ ∀ e, e ≠ 17 → o' e = o e := by
  intro k
  induction k with
  | zero =>
    intro j o hj h16 f hf
    obtain ⟨f, rfl⟩ : ∃ x, f = x + 1 := ⟨f - 1, by omega⟩
    have : j = 9 := by omega
    subst this
    refine ⟨o, ?_, fun _ _ => rfl⟩
    show fX0_listen_L25 (am_it _ f) _ = _
    unfold fX0_listen_L25
    simp only [if_pos p10]
  | succ k ih =>
    intro j o hj h16 f hf
    obtain ⟨f, rfl⟩ : ∃ x, f = x + 1 := ⟨f - 1, by omega⟩
    obtain ⟨o', q1, q2⟩ := ih (j + 1) (va_up o 17 (ctA (cs (M 2) (j + 1) 1000).2 (o 17))) (by omega) h16 f (by omega)
    refine ⟨o', ?_, fun e he => (q2 e he).trans (by simp [va_up, he])⟩
    rw [← q1]
    show fX0_listen_L25 (am_it _ f) _ = _
    obtain ⟨b1', b2'⟩ := bl_le (M 2) j
    have b3 := mo_le (M 2) (j + 1)
    rw [fX0_listen_L25]
    simp only [if_neg (n10 (show j + 1 < 10 by omega)), most_eq hw h16 (show j + 1 < 10 by omega), Option.bind_some, nI_add1]
    rw [show (cs (M 2) (j + 1) 1000).1 = mo (M 2) (j + 1) from rfl]
    unfold jv_min
    simp only [lit_le (n := (bl (M 2) j).2) (i := mo (M 2) (j + 1)) (by omega) (by omega), lit_lt (n := mo (M 2) (j + 1)) (i := (bl (M 2) j).2) (by omega) (by omega)]
    rw [show bl (M 2) (j + 1) = (if mo (M 2) (j + 1) < (bl (M 2) j).2 then j + 1 else (bl (M 2) j).1, if mo (M 2) (j + 1) < (bl (M 2) j).2 then mo (M 2) (j + 1) else (bl (M 2) j).2) from rfl]
    by_cases c : mo (M 2) (j + 1) < (bl (M 2) j).2
    · simp only [if_pos c, if_neg (show ¬ (bl (M 2) j).2 ≤ mo (M 2) (j + 1) by omega), Option.bind_some]
    · simp only [if_neg c, if_pos (show (bl (M 2) j).2 ≤ mo (M 2) (j + 1) by omega), Option.bind_some]
theorem list_x2 {m : Nat → Nat → Int32} (hw : wf m) (N : am_M) (hp : ∀ g, 1 ≤ mo m g) : ∀ (k j : Nat) (u : Nat → Nat → Int32), j + k = 9 → (∀ z, z < 100 → u 20 z = nI (fmN m (z / 10) (z % 10))) → u 9 0 = m 15 0 → (∀ e, e < 8 → u 10 (2 * e) = m 13 e ∧ u 10 (2 * e + 1) = m 14 e) → ∀ f, k < f → ∃ u', am_it fX2_listen_L25 f (nI (bl m j).1, nI (bl m j).2, nI (j + 1), va_up N 1 u) = some (nI (bl m 9).1, nI (bl m 9).2, nI 10, va_up N 1 u') ∧ ∀ e, e ≠ 21 → u' e = u e := by
  intro k
  induction k with
  | zero =>
    intro j u hj h20 h9 h10 f hf
    obtain ⟨f, rfl⟩ : ∃ x, f = x + 1 := ⟨f - 1, by omega⟩
    have : j = 9 := by omega
    subst this
    refine ⟨u, ?_, fun _ _ => rfl⟩
    show fX2_listen_L25 (am_it _ f) _ = _
    unfold fX2_listen_L25
    simp only [if_pos p10]
  | succ k ih =>
    intro j u hj h20 h9 h10 f hf
    obtain ⟨f, rfl⟩ : ∃ x, f = x + 1 := ⟨f - 1, by omega⟩
    obtain ⟨u', q1, q2⟩ := ih (j + 1) (va_up u 21 (ctA (cs m (j + 1) 1000).2 (u 21))) (by omega) h20 h9 h10 f (by omega)
    refine ⟨u', ?_, fun e he => (q2 e he).trans (by simp [va_up, he])⟩
    rw [← q1]
    show fX2_listen_L25 (am_it _ f) _ = _
    obtain ⟨b1', b2'⟩ := bl_le m j
    have b3 := mo_le m (j + 1)
    have b4 := hp (j + 1)
    rw [fX2_listen_L25]
    simp only [if_neg (n10 (show j + 1 < 10 by omega)), fill2, Option.bind_some, worst_loop (N := N) (u := u) (B := u 21) hw h20 h9 h10 (show j + 1 < 10 by omega), nI_add1]
    rw [show (cs m (j + 1) 1000).1 = mo m (j + 1) from rfl, if_neg (show ¬ nI (mo m (j + 1)) ≤ 0 by rw [show (0 : Int32) = nI 0 from rfl, lit_le (by omega) (by omega)]; omega)]
    simp only [lit_le (n := (bl m j).2) (i := mo m (j + 1)) (by omega) (by omega)]
    rw [show bl m (j + 1) = (if mo m (j + 1) < (bl m j).2 then j + 1 else (bl m j).1, if mo m (j + 1) < (bl m j).2 then mo m (j + 1) else (bl m j).2) from rfl]
    by_cases c : mo m (j + 1) < (bl m j).2
    · simp only [if_pos c, if_neg (show ¬ (bl m j).2 ≤ mo m (j + 1) by omega), Option.bind_some, if_neg (show ¬ (1 : Int32) = 0 by decide)]
    · simp only [if_neg c, if_pos (show (bl m j).2 ≤ mo m (j + 1) by omega), Option.bind_some, if_true]
theorem list_none {m : Nat → Nat → Int32} (hw : wf m) (N : am_M) (hp : ∀ g, mo m g = 0) : ∀ (k j : Nat) (u : Nat → Nat → Int32), j + k = 10 → (∀ z, z < 100 → u 20 z = nI (fmN m (z / 10) (z % 10))) → u 9 0 = m 15 0 → (∀ e, e < 8 → u 10 (2 * e) = m 13 e ∧ u 10 (2 * e + 1) = m 14 e) → ∀ f, k < f → ∃ u', am_it fX2_listen_L25 f ((-6 : Int32), (1000000 : Int32), nI j, va_up N 1 u) = some ((-6 : Int32), (1000000 : Int32), nI 10, va_up N 1 u') ∧ ∀ e, e ≠ 21 → u' e = u e := by
  intro k
  induction k with
  | zero =>
    intro j u hj h20 h9 h10 f hf
    obtain ⟨f, rfl⟩ : ∃ x, f = x + 1 := ⟨f - 1, by omega⟩
    have : j = 10 := by omega
    subst this
    refine ⟨u, ?_, fun _ _ => rfl⟩
    show fX2_listen_L25 (am_it _ f) _ = _
    unfold fX2_listen_L25
    simp only [if_pos p10]
  | succ k ih =>
    intro j u hj h20 h9 h10 f hf
    obtain ⟨f, rfl⟩ : ∃ x, f = x + 1 := ⟨f - 1, by omega⟩
    obtain ⟨u', q1, q2⟩ := ih (j + 1) (va_up u 21 (ctA (cs m j 1000).2 (u 21))) (by omega) h20 h9 h10 f (by omega)
    refine ⟨u', ?_, fun e he => (q2 e he).trans (by simp [va_up, he])⟩
    rw [← q1]
    show fX2_listen_L25 (am_it _ f) _ = _
    rw [fX2_listen_L25]
    simp only [if_neg (n10 (show j < 10 by omega)), fill2, Option.bind_some, worst_loop (N := N) (u := u) (B := u 21) hw h20 h9 h10 (show j < 10 by omega), nI_add1]
    rw [show (cs m j 1000).1 = mo m j from rfl, hp j, if_pos (show nI 0 ≤ 0 by decide), Option.bind_some, if_pos rfl, if_pos rfl, Option.bind_some, Option.bind_some]
