/-! INVARIANT: what ties the two systems' memories -/
set_option maxRecDepth 100000
/-- a mine as it can be -/
def wf (m : Nat → Nat → Int32) : Prop :=
  (∀ g, g < 10 → ∃ p, p < 1024 ∧ m 0 g = nI p) ∧ (∀ a b, a < 10 → b < 10 → hb (m 0 a) (nI b) = hb (m 0 b) (nI a)) ∧
  (∀ g, g < 10 → ∃ e, e < 10 ∧ m 1 g = nI e) ∧ (∃ s, s < 1024 ∧ m 3 0 = nI s) ∧ (∃ s, s < 1024 ∧ m 4 0 = nI s) ∧ (∃ s, s < 256 ∧ m 5 0 = nI s) ∧
  (∀ k, k < 8 → ∃ a b, a ≤ 99 ∧ b ≤ a ∧ m 8 k = nI a ∧ m 9 k = nI b ∧ (m 11 k = -6 ∨ (1 ≤ b ∧ ∃ n, n < 24 ∧ m 11 k = nI n))) ∧
  (∀ k, k < 8 → ∃ g, g < 10 ∧ m 10 k = nI g) ∧ (∃ b, b ≤ 999 ∧ m 12 0 = nI b) ∧
  (∀ e, e < 8 → ∃ g, g < 10 ∧ m 13 e = nI g) ∧ (∀ e, e < 8 → m 14 e = -1 ∨ ∃ n, n < 24 ∧ m 14 e = nI n) ∧ (∃ s, s ≤ 8 ∧ m 15 0 = nI s)
/-- a mine and the reference's book: v as the reference's fields lie (0 the book, 2 who is there, 3 low, 4 high, 5 lungs, 6 passages, 7 echo, 8 gas, 9 sights, 10 sight) -/
def rel (m v : Nat → Nat → Int32) : Prop :=
  (∀ k, k < 8 → v 0 (8 + k) = m 9 k ∧ v 0 (16 + k) = m 10 k ∧ v 3 k = m 6 k ∧ v 4 k = m 7 k ∧ v 5 k = m 8 k ∧ (hb (m 5 0) (nI k) = true → v 0 k = m 11 k)) ∧
  (∀ g, g < 10 → v 0 (24 + g) = m 2 g ∧ v 6 g = m 0 g ∧ v 7 g = m 1 g) ∧ v 0 34 = m 4 0 ∧ v 0 35 = m 12 0 ∧ v 2 0 = m 5 0 ∧ v 8 0 = m 3 0 ∧ v 9 0 = m 15 0 ∧
  (∀ e, e < 8 → v 10 (2 * e) = m 13 e ∧ v 10 (2 * e + 1) = m 14 e)
/-- an image of the reference, as fields -/
def imgv (a : Nat → Int32) (n : Nat) : Nat → Nat → Int32 := fun k i => match k with
  | 0 => a (110 * n + i)
  | 3 => a (110 * n + 36 + i)
  | 4 => a (110 * n + 44 + i)
  | 5 => a (110 * n + 52 + i)
  | 6 => a (110 * n + 60 + i)
  | 7 => a (110 * n + 70 + i)
  | 10 => a (110 * n + 80 + i)
  | 2 => a (110 * n + 100)
  | 8 => a (110 * n + 101)
  | 9 => a (110 * n + 102)
  | _ => 0
/-- how things would be: 'now' for the book -/
def nowv (u : Nat → Nat → Int32) : Nat → Nat → Int32 := va_up u 0 (u 1)
def sgn (M : am_M) : Prop := ∃ s, s ≤ 60 ∧ M 0 4 0 = nI s ∧ M 1 11 0 = nI s ∧ (∀ i, i < 60 → M 0 3 i = M 1 12 i) ∧ ∀ i, i < s → ∃ c, 33 ≤ c ∧ c ≤ 126 ∧ M 1 12 i = nI c
def img (L : Nat → Bool) (M : am_M) : Prop := ∀ n, n < 2 → (L (n + 4) = true → wf (M (n + 4)) ∧ rel (M (n + 4)) (imgv (M 1 22) n) ∧ M 1 23 n = 1) ∧ (L (n + 4) = false → M 1 23 n = 0)
def Inv (L : Nat → Bool) (M : am_M) : Prop := wf (M 2) ∧ rel (M 2) (M 1) ∧ sgn M ∧ img L M
/-- all that counts is the same -/
def eqc (M M' : am_M) : Prop := M' 2 = M 2 ∧ M' 4 = M 4 ∧ M' 5 = M 5 ∧ M' 0 3 = M 0 3 ∧ M' 0 4 = M 0 4 ∧ (∀ k, k ≤ 12 → k ≠ 1 → M' 1 k = M 1 k) ∧ M' 1 22 = M 1 22 ∧ M' 1 23 = M 1 23
theorem eqc_rf (M : am_M) : eqc M M := ⟨rfl, rfl, rfl, rfl, rfl, fun _ _ _ => rfl, rfl, rfl⟩
theorem eqc_tr {M M1 M2 : am_M} (h1 : eqc M M1) (h2 : eqc M1 M2) : eqc M M2 := ⟨h2.1.trans h1.1, h2.2.1.trans h1.2.1, h2.2.2.1.trans h1.2.2.1, h2.2.2.2.1.trans h1.2.2.2.1, h2.2.2.2.2.1.trans h1.2.2.2.2.1, fun k a b => (h2.2.2.2.2.2.1 k a b).trans (h1.2.2.2.2.2.1 k a b), h2.2.2.2.2.2.2.1.trans h1.2.2.2.2.2.2.1, h2.2.2.2.2.2.2.2.trans h1.2.2.2.2.2.2.2⟩
theorem rel_cg {m v v' : Nat → Nat → Int32} (h : ∀ k, k ≤ 10 → k ≠ 1 → v' k = v k) (hr : rel m v) : rel m v' := by
  unfold rel at *
  rw [h 0 (by omega) (by omega), h 2 (by omega) (by omega), h 3 (by omega) (by omega), h 4 (by omega) (by omega), h 5 (by omega) (by omega), h 6 (by omega) (by omega), h 7 (by omega) (by omega), h 8 (by omega) (by omega), h 9 (by omega) (by omega), h 10 (by omega) (by omega)]
  exact hr
theorem Inv_eqc {L : Nat → Bool} {M M' : am_M} (h : Inv L M) (e : eqc M M') : Inv L M' := by
  obtain ⟨h1, h2, h3, h4⟩ := h
  obtain ⟨e2, e4, e5, e03, e04, e1, e22, e23⟩ := e
  refine ⟨by rw [e2]; exact h1, by rw [e2]; exact rel_cg (fun k a b => e1 k (by omega) b) h2, ?_, ?_⟩
  · unfold sgn at *
    rw [e04, e03, e1 11 (by omega) (by omega), e1 12 (by omega) (by omega)]
    exact h3
  · intro n hn
    have : M' (n + 4) = M (n + 4) := by
      rcases (show n = 0 ∨ n = 1 by omega) with rfl | rfl
      · exact e4
      · exact e5
    rw [this, e22, e23]
    exact h4 n hn
theorem sgn_cg {M M' : am_M} (h : sgn M) (h1 : M' 0 3 = M 0 3) (h2 : M' 0 4 = M 0 4) (h3 : M' 1 11 = M 1 11) (h4 : M' 1 12 = M 1 12) : sgn M' := by
  unfold sgn at *
  rw [h1, h2, h3, h4]
  exact h
theorem img_cg {L : Nat → Bool} {M M' : am_M} (h : img L M) (h1 : M' 4 = M 4) (h2 : M' 5 = M 5) (h3 : M' 1 22 = M 1 22) (h4 : M' 1 23 = M 1 23) : img L M' := by
  intro n hn
  have : M' (n + 4) = M (n + 4) := by
    rcases (show n = 0 ∨ n = 1 by omega) with rfl | rfl
    · exact h1
    · exact h2
  rw [this, h3, h4]
  exact h n hn
theorem isIn_lit (a : Int32) {B C : Int64} (b c : Int32) (hb : b.toInt64 = B) (hc : c.toInt64 = C) : fX0_isIn a.toInt64 B C = fX2_in a b c := by
  subst hb; subst hc
  rw [isIn_le, in_le]
  simp only [i64_le]
theorem isEnd_in (a : Int32) : fX0_isEnd a = fX2_in a 0 1 := isIn_lit a 0 1 rfl rfl
theorem isGal_in (a : Int32) : fX0_isGallery a = fX2_in a 0 9 := isIn_lit a 0 9 rfl rfl
theorem isVoi_in (a : Int32) : fX0_isVoice a = fX2_in a 0 7 := isIn_lit a 0 7 rfl rfl
theorem isNot_in (a : Int32) : fX0_isNote a = fX2_in a 0 23 := isIn_lit a 0 23 rfl rfl
theorem isGal2_in (a : Int32) : fX2_isGallery a = fX2_in a 0 9 := rfl
theorem in_ok {a b c : Int32} (h : ¬ fX2_in a b c = 0) : b ≤ a ∧ a ≤ c := by
  rw [in_le] at h
  by_cases z : b ≤ a ∧ a ≤ c
  · exact z
  · rw [if_neg z] at h; exact absurd rfl h
theorem in_n {a : Int32} {n : Nat} (hn : n < 2 ^ 31) (h : ¬ fX2_in a 0 (nI n) = 0) : ∃ j, j ≤ n ∧ a = nI j := by
  obtain ⟨h1, h2⟩ := in_ok h
  exact nI_of2 (nI_toInt hn) (Int32.not_lt.mpr h1) h2
theorem there_eq {m : Nat → Nat → Int32} {k : Nat} : fX1_isThere m (nI k) = if hb (m 5 0) (nI k) = true then 1 else 0 := holds_hb _ _
theorem here_in {L : Nat → Bool} {M : am_M} (h : Inv L M) (a : Int32) : fX0_isHere M a = fX2_isThere (M 1) a := by
  unfold fX0_isHere fX2_isThere fX1_isThere
  rw [isVoi_in, holds_hb, has_hb, h.2.1.2.2.2.2.1]
theorem there_ok {m : Nat → Nat → Int32} {a : Int32} (h : ¬ fX2_isThere m a = 0) : ∃ k, k < 8 ∧ a = nI k ∧ hb (m 2 0) (nI k) = true := by
  unfold fX2_isThere at h
  by_cases h1 : fX2_in a 0 7 = 0
  · rw [if_pos h1] at h; exact absurd rfl h
  · rw [if_neg h1, has_hb] at h
    obtain ⟨k, hk, e⟩ := in_n (n := 7) (by omega) h1
    refine ⟨k, by omega, e, ?_⟩
    by_cases z : hb (m 2 0) a = true
    · rw [← e]; exact z
    · rw [if_neg z] at h; exact absurd rfl h
theorem there_n {m : Nat → Nat → Int32} {k : Nat} (hk : k < 8) : fX2_isThere m (nI k) = if hb (m 2 0) (nI k) = true then 1 else 0 := by
  unfold fX2_isThere
  have : fX2_in (nI k) 0 7 = 1 := by
    rw [in_le, if_pos ⟨nI_pos' (by omega), nI_le (b := 7) (by omega) (by omega)⟩]
  rw [this, if_neg (by decide), has_hb]
  by_cases z : hb (m 2 0) (nI k) = true
  · simp [z]
  · simp [z]
/-! literals of isIn -/
theorem in_m1_23 (a : Int32) : fX0_isIn a.toInt64 (-1 : Int64) (23 : Int64) = fX2_in a (-1 : Int32) (23 : Int32) := isIn_lit a (-1) (23) rfl rfl
theorem in_0_1 (a : Int32) : fX0_isIn a.toInt64 (0 : Int64) (1 : Int64) = fX2_in a (0 : Int32) (1 : Int32) := isIn_lit a (0) (1) rfl rfl
theorem in_0_2 (a : Int32) : fX0_isIn a.toInt64 (0 : Int64) (2 : Int64) = fX2_in a (0 : Int32) (2 : Int32) := isIn_lit a (0) (2) rfl rfl
theorem in_0_4 (a : Int32) : fX0_isIn a.toInt64 (0 : Int64) (4 : Int64) = fX2_in a (0 : Int32) (4 : Int32) := isIn_lit a (0) (4) rfl rfl
theorem in_0_7 (a : Int32) : fX0_isIn a.toInt64 (0 : Int64) (7 : Int64) = fX2_in a (0 : Int32) (7 : Int32) := isIn_lit a (0) (7) rfl rfl
theorem in_0_9 (a : Int32) : fX0_isIn a.toInt64 (0 : Int64) (9 : Int64) = fX2_in a (0 : Int32) (9 : Int32) := isIn_lit a (0) (9) rfl rfl
theorem in_0_10 (a : Int32) : fX0_isIn a.toInt64 (0 : Int64) (10 : Int64) = fX2_in a (0 : Int32) (10 : Int32) := isIn_lit a (0) (10) rfl rfl
theorem in_0_23 (a : Int32) : fX0_isIn a.toInt64 (0 : Int64) (23 : Int64) = fX2_in a (0 : Int32) (23 : Int32) := isIn_lit a (0) (23) rfl rfl
theorem in_0_99 (a : Int32) : fX0_isIn a.toInt64 (0 : Int64) (99 : Int64) = fX2_in a (0 : Int32) (99 : Int32) := isIn_lit a (0) (99) rfl rfl
theorem in_0_999 (a : Int32) : fX0_isIn a.toInt64 (0 : Int64) (999 : Int64) = fX2_in a (0 : Int32) (999 : Int32) := isIn_lit a (0) (999) rfl rfl
theorem in_0_1023 (a : Int32) : fX0_isIn a.toInt64 (0 : Int64) (1023 : Int64) = fX2_in a (0 : Int32) (1023 : Int32) := isIn_lit a (0) (1023) rfl rfl
theorem in_0_9999 (a : Int32) : fX0_isIn a.toInt64 (0 : Int64) (9999 : Int64) = fX2_in a (0 : Int32) (9999 : Int32) := isIn_lit a (0) (9999) rfl rfl
theorem in_1_99 (a : Int32) : fX0_isIn a.toInt64 (1 : Int64) (99 : Int64) = fX2_in a (1 : Int32) (99 : Int32) := isIn_lit a (1) (99) rfl rfl
theorem in_3_4 (a : Int32) : fX0_isIn a.toInt64 (3 : Int64) (4 : Int64) = fX2_in a (3 : Int32) (4 : Int32) := isIn_lit a (3) (4) rfl rfl
theorem in_10_89 (a : Int32) : fX0_isIn a.toInt64 (10 : Int64) (89 : Int64) = fX2_in a (10 : Int32) (89 : Int32) := isIn_lit a (10) (89) rfl rfl
theorem in_33_126 (a : Int32) : fX0_isIn a.toInt64 (33 : Int64) (126 : Int64) = fX2_in a (33 : Int32) (126 : Int32) := isIn_lit a (33) (126) rfl rfl
theorem in_100_199 (a : Int32) : fX0_isIn a.toInt64 (100 : Int64) (199 : Int64) = fX2_in a (100 : Int32) (199 : Int32) := isIn_lit a (100) (199) rfl rfl
theorem in_111_999 (a : Int32) : fX0_isIn a.toInt64 (111 : Int64) (999 : Int64) = fX2_in a (111 : Int32) (999 : Int32) := isIn_lit a (111) (999) rfl rfl
theorem in_x_23 (a b : Int32) : fX0_isIn a.toInt64 b.toInt64 (23 : Int64) = fX2_in a b (23 : Int32) := isIn_lit a b 23 rfl rfl
theorem in_0_x (a b : Int32) : fX0_isIn a.toInt64 (0 : Int64) b.toInt64 = fX2_in a (0 : Int32) b := isIn_lit a 0 b rfl rfl
theorem in_x_x (a b c : Int32) : fX0_isIn a.toInt64 b.toInt64 c.toInt64 = fX2_in a b c := isIn_lit a b c rfl rfl
