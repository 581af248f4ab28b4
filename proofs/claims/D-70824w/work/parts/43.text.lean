/-! TEXTS: both systems read them alike -/
set_option maxRecDepth 100000
def isLt (x : Nat) : Bool := decide (65 ≤ x) && decide (x ≤ 72)
def isDg (x : Nat) : Bool := decide (48 ≤ x) && decide (x ≤ 57)
def isNt (x : Nat) : Bool := decide (97 ≤ x) && decide (x ≤ 120)
def tl (c : Nat → Nat) (p : Nat) : Nat := if c p = 46 then 1 else if c p = 42 then 2 else if c (p + 1) = 62 then 3 else 2
def tq (c : Nat → Nat) : Nat → Nat
  | 0 => 0
  | j + 1 => tq c j + tl c (tq c j)
def tAct (c : Nat → Nat) (p : Nat) : Nat := if c p = 46 then 4 else if c p = 42 then 3 else if c (p + 1) = 45 then 1 else if c (p + 1) = 62 then 2 else 0
def tWho (c : Nat → Nat) (p : Nat) : Nat := if isLt (c p) = true then c p - 65 else 0
def tWhat (c : Nat → Nat) (p : Nat) : Nat := if c p = 46 then 0 else if c p = 42 then c (p + 1) - 48 else if c (p + 1) = 45 then 0 else if c (p + 1) = 62 then c (p + 2) - 48 else c (p + 1) - 97
def tOK (c : Nat → Nat) (p : Nat) : Prop := c p = 46 ∨ (c p = 42 ∧ isDg (c (p + 1)) = true) ∨ (isLt (c p) = true ∧ (c (p + 1) = 45 ∨ isNt (c (p + 1)) = true ∨ (c (p + 1) = 62 ∧ isDg (c (p + 2)) = true)))
/-- the acts that are read so far -/
def tks (c : Nat → Nat) (o : Nat → Nat → Int32) (n : Nat) : Prop := ∀ j, j < n → tOK c (tq c j) ∧ o 5 j = nI (tAct c (tq c j)) ∧ o 6 j = nI (tWho c (tq c j)) ∧ o 7 j = nI (tWhat c (tq c j))
theorem tl_pos (c : Nat → Nat) (p : Nat) : 1 ≤ tl c p := by
  unfold tl
  split
  · omega
  · split
    · omega
    · split <;> omega
theorem tq_ge (c : Nat → Nat) : ∀ n, n ≤ tq c n
  | 0 => Nat.le_refl _
  | n + 1 => by
    have := tq_ge c n
    have := tl_pos c (tq c n)
    show n + 1 ≤ tq c n + tl c (tq c n)
    omega
/-- where the reading is: state d, n acts read, the next sign is i -/
def pos (c : Nat → Nat) (o : Nat → Nat → Int32) (i d n : Nat) : Prop :=
  (d = 0 ∧ tq c n = i) ∨ (d = 1 ∧ tq c n + 1 = i ∧ isLt (c (tq c n)) = true ∧ o 6 n = nI (tWho c (tq c n))) ∨ (d = 2 ∧ tq c n + 2 = i ∧ isLt (c (tq c n)) = true ∧ c (tq c n + 1) = 62 ∧ o 6 n = nI (tWho c (tq c n))) ∨ (d = 3 ∧ tq c n + 1 = i ∧ c (tq c n) = 42 ∧ o 6 n = nI (tWho c (tq c n)))
def pin (c : Nat → Nat) (s : Nat) (o : Nat → Nat → Int32) (i d n : Nat) : Prop := o 8 0 = nI n ∧ o 9 0 = nI d ∧ o 4 0 = nI s ∧ (∀ x, x < 60 → x < s → o 3 x = nI (c x)) ∧ tks c o n ∧ pos c o i d n
def clo (o : Nat → Nat → Int32) (n : Nat) (a v : Int32) : Nat → Nat → Int32 := va_up (va_up (va_up (va_up o 5 (va_up (o 5) n a)) 7 (va_up (o 7) n v)) 8 (va_up (o 8) 0 (nI (n + 1)))) 9 (va_up (o 9) 0 0)
theorem wr60 {M : am_M} {j k i : Nat} {v : Int32} (h : i < 60) : am_wr M j k 60 (nI i) v = some (am_up M j k i v) := wr_n h (by omega)
theorem rd60 {f : Nat → Int32} {i : Nat} (h : i < 60) : am_rd f 60 (nI i) = some (f i) := rd_n h (by omega)
theorem closes_eq {M : am_M} {o : Nat → Nat → Int32} {n : Nat} (hn : n < 60) (h8 : o 8 0 = nI n) (a v : Int32) (b : Bool) : fX0_closes (va_up M 0 o) a v (b1 b) = some (b1 b, va_up M 0 (clo o n a v)) := by
  unfold fX0_closes
  have e1 : va_up o 5 (va_up (o 5) n a) 8 0 = nI n := h8
  have e2 : va_up (va_up o 5 (va_up (o 5) n a)) 7 (va_up (va_up o 5 (va_up (o 5) n a) 7) n v) 8 0 = nI n := h8
  have hb : b1 b = 0 ∨ b1 b = 1 := by cases b <;> simp [b1]
  simp only [sm_at, h8, wr60 hn, sm_up, sm_put, Option.bind_some, e1, e2, nI_1]
  rw [if_pos hb]
  rfl
theorem b1_or (b : Bool) : b1 b = 0 ∨ b1 b = 1 := by cases b <;> simp [b1]
theorem isV_c {x : Nat} (h1 : 33 ≤ x) (h2 : x ≤ 126) : fX0_isVoice (nI x - 65) = b1 (isLt x) ∧ (isLt x = true → nI x - 65 = nI (x - 65)) := by
  have : ∀ x : Fin 127, 33 ≤ x.1 → fX0_isVoice (nI x.1 - 65) = b1 (isLt x.1) ∧ (isLt x.1 = true → nI x.1 - 65 = nI (x.1 - 65)) := by decide +kernel
  exact this ⟨x, by omega⟩ h1
theorem isN_c {x : Nat} (h1 : 33 ≤ x) (h2 : x ≤ 126) : fX0_isNote (nI x - 97) = b1 (isNt x) ∧ (isNt x = true → nI x - 97 = nI (x - 97)) := by
  have : ∀ x : Fin 127, 33 ≤ x.1 → fX0_isNote (nI x.1 - 97) = b1 (isNt x.1) ∧ (isNt x.1 = true → nI x.1 - 97 = nI (x.1 - 97)) := by decide +kernel
  exact this ⟨x, by omega⟩ h1
theorem isG_c {x : Nat} (h1 : 33 ≤ x) (h2 : x ≤ 126) : fX0_isGallery (nI x - 48) = b1 (isDg x) ∧ (isDg x = true → nI x - 48 = nI (x - 48)) := by
  have : ∀ x : Fin 127, 33 ≤ x.1 → fX0_isGallery (nI x.1 - 48) = b1 (isDg x.1) ∧ (isDg x.1 = true → nI x.1 - 48 = nI (x.1 - 48)) := by decide +kernel
  exact this ⟨x, by omega⟩ h1
theorem inM_c {x : Nat} (h2 : x ≤ 126) : fX2_in (nI x) 65 72 = b1 (isLt x) ∧ fX2_in (nI x) 97 120 = b1 (isNt x) ∧ fX2_in (nI x) 48 57 = b1 (isDg x) := by
  have : ∀ x : Fin 127, fX2_in (nI x.1) 65 72 = b1 (isLt x.1) ∧ fX2_in (nI x.1) 97 120 = b1 (isNt x.1) ∧ fX2_in (nI x.1) 48 57 = b1 (isDg x.1) := by decide +kernel
  exact this ⟨x, by omega⟩
/-- an act is closed: one more is read -/
theorem clo_pin {c : Nat → Nat} {s : Nat} {o : Nat → Nat → Int32} {i n : Nat} {a v : Int32} (h4 : o 4 0 = nI s) (h3 : ∀ x, x < 60 → x < s → o 3 x = nI (c x)) (ht : tks c o n) (hk : tOK c (tq c n)) (ha : a = nI (tAct c (tq c n))) (hw : o 6 n = nI (tWho c (tq c n))) (hv : v = nI (tWhat c (tq c n))) (hi : tq c n + tl c (tq c n) = i) : pin c s (clo o n a v) i 0 (n + 1) := by
  refine ⟨rfl, rfl, h4, h3, fun j hj => ?_, Or.inl ⟨rfl, hi⟩⟩
  by_cases e : j = n
  · subst e
    refine ⟨hk, ?_, hw, ?_⟩
    · show va_up (o 5) j a j = _
      rw [ha]; simp [va_up]
    · show va_up (o 7) j v j = _
      rw [hv]; simp [va_up]
  · obtain ⟨q1, q2, q3, q4⟩ := ht j (by omega)
    refine ⟨q1, ?_, q3, ?_⟩
    · show va_up (o 5) n a j = _
      simp only [va_up, e, if_false]; exact q2
    · show va_up (o 7) n v j = _
      simp only [va_up, e, if_false]; exact q4
/-- the reference's state for the component's -/
def dst (d : Nat) : Nat := if d = 3 then 2 else d
/-- one sign is read: by the component; what comes -/
theorem read_eq {M : am_M} {c : Nat → Nat} {s : Nat} {o : Nat → Nat → Int32} {i d n : Nat} (hp : pin c s o i d n) (hs : s ≤ 60) (hi : i < s) (h1 : 33 ≤ c i) (h2 : c i ≤ 126) :
    (∃ o' d' n', fX0_reads (va_up M 0 o) (nI (c i)) = some (1, va_up M 0 o') ∧ pin c s o' (i + 1) d' n' ∧ (o' 3 = o 3 ∧ o' 4 = o 4) ∧
      ((d = 0 ∧ (c i = 46 ∧ d' = 0 ∨ c i = 42 ∧ d' = 3 ∨ isLt (c i) = true ∧ d' = 1)) ∨ (d = 1 ∧ (c i = 62 ∧ d' = 2 ∨ c i = 45 ∧ d' = 0 ∨ isNt (c i) = true ∧ d' = 0)) ∨ ((d = 2 ∨ d = 3) ∧ isDg (c i) = true ∧ d' = 0))) ∨
    (∃ o', fX0_reads (va_up M 0 o) (nI (c i)) = some (0, va_up M 0 o') ∧ o' 3 = o 3 ∧ o' 4 = o 4 ∧
      ((d = 0 ∧ ¬ c i = 46 ∧ ¬ c i = 42 ∧ isLt (c i) = false) ∨ (d = 1 ∧ ¬ c i = 62 ∧ ¬ c i = 45 ∧ isNt (c i) = false) ∨ ((d = 2 ∨ d = 3) ∧ isDg (c i) = false))) := by
  obtain ⟨h8, h9, h4, h3, ht, hpos⟩ := hp
  have hge := tq_ge c n
  have hn : n < 60 := by
    rcases hpos with ⟨-, h⟩ | ⟨-, h, -⟩ | ⟨-, h, -⟩ | ⟨-, h, -⟩ <;> omega
  have ceq : ∀ z : Nat, z ≤ 126 → (nI (c i) = nI z) = (c i = z) := fun z hz => lit_eq (by omega) (by omega)
  generalize hR : fX0_reads (va_up M 0 o) (nI (c i)) = R
  unfold fX0_reads at hR
  simp only [sm_at, h9] at hR
  rcases hpos with ⟨rfl, hq⟩ | ⟨rfl, hq, hL, hW⟩ | ⟨rfl, hq, hL, h62, hW⟩ | ⟨rfl, hq, h42, hW⟩
  · -- an act begins
    rw [if_pos nI_0] at hR
    unfold fX0_begins at hR
    obtain ⟨v1, v2⟩ := isV_c h1 h2
    have hx : (if fX0_isVoice (nI (c i) - 65) = 0 then some (0 : Int32) else some (nI (c i) - 65)) = some (nI (tWho c i)) := by
      rw [v1, ite_b1]
      unfold tWho
      cases hl : isLt (c i) with
      | false => rfl
      | true => rw [if_pos rfl, if_pos rfl, v2 hl]
    rw [hx] at hR
    simp only [Option.bind_some, sm_at, h8, wr60 hn, sm_up] at hR
    have o6 : va_up o 6 (va_up (o 6) n (nI (tWho c i))) 6 n = nI (tWho c i) := by simp [va_up]
    have t6 : tks c (va_up o 6 (va_up (o 6) n (nI (tWho c i)))) n := fun j hj => by
      obtain ⟨q1, q2, q3, q4⟩ := ht j hj
      refine ⟨q1, q2, ?_, q4⟩
      have : ¬ j = n := by omega
      show va_up (o 6) n _ j = _
      simp only [va_up, this, if_false]
      exact q3
    by_cases h46 : c i = 46
    · rw [if_pos (show nI (c i) = (46 : Int32) by rw [h46]; rfl)] at hR
      have q := closes_eq (M := M) (o := va_up o 6 (va_up (o 6) n (nI (tWho c i)))) hn h8 4 0 true
      rw [show fX0_closes (va_up M 0 (va_up o 6 (va_up (o 6) n (nI (tWho c i))))) 4 0 1 = _ from q] at hR
      simp only [Option.bind_some] at hR
      rw [if_pos (b1_or true), Option.bind_some] at hR
      dsimp only at hR
      rw [if_pos (b1_or true)] at hR
      refine Or.inl ⟨_, 0, n + 1, hR.symm, ?_, ⟨rfl, rfl⟩, Or.inl ⟨rfl, Or.inl ⟨h46, rfl⟩⟩⟩
      have e46 : c (tq c n) = 46 := by rw [hq]; exact h46
      refine clo_pin h4 h3 t6 (Or.inl e46) ?_ (by rw [hq]; exact o6) ?_ ?_
      · unfold tAct; rw [if_pos e46]; rfl
      · unfold tWhat; rw [if_pos e46]; rfl
      · unfold tl; rw [if_pos e46, hq]
    · rw [if_neg (show ¬ nI (c i) = (46 : Int32) by rw [show (46 : Int32) = nI 46 from rfl, ceq 46 (by omega)]; exact h46)] at hR
      by_cases h42 : c i = 42
      · rw [if_pos (show nI (c i) = (42 : Int32) by rw [h42]; rfl)] at hR
        simp only [Option.bind_some] at hR
        rw [if_pos (show nI (c i) = (42 : Int32) by rw [h42]; rfl), Option.bind_some] at hR
        dsimp only at hR
        rw [if_pos (Or.inr rfl), sm_put] at hR
        refine Or.inl ⟨_, 3, n, hR.symm, ⟨h8, rfl, h4, h3, t6, Or.inr (Or.inr (Or.inr ⟨rfl, by omega, by rw [hq]; exact h42, by rw [hq]; exact o6⟩))⟩, ⟨rfl, rfl⟩, Or.inl ⟨rfl, Or.inr (Or.inl ⟨h42, rfl⟩)⟩⟩
      · have n42 : ¬ nI (c i) = (42 : Int32) := by rw [show (42 : Int32) = nI 42 from rfl, ceq 42 (by omega)]; exact h42
        rw [if_neg n42] at hR
        simp only [Option.bind_some] at hR
        rw [if_neg n42, v1, ite_b1] at hR
        cases hl : isLt (c i) with
        | false =>
          rw [hl, if_neg (by simp), Option.bind_some] at hR
          dsimp only at hR
          rw [if_pos (Or.inl rfl), sm_put] at hR
          exact Or.inr ⟨_, hR.symm, rfl, rfl, Or.inl ⟨rfl, h46, h42, rfl⟩⟩
        | true =>
          rw [hl, if_pos rfl, Option.bind_some] at hR
          dsimp only at hR
          rw [if_pos (Or.inr rfl), sm_put] at hR
          refine Or.inl ⟨_, 1, n, hR.symm, ⟨h8, rfl, h4, h3, t6, Or.inr (Or.inl ⟨rfl, by omega, by rw [hq]; exact hl, by rw [hq]; exact o6⟩)⟩, ⟨rfl, rfl⟩, Or.inl ⟨rfl, Or.inr (Or.inr ⟨rfl, rfl⟩)⟩⟩
  · -- a deed
    rw [if_neg (by decide), if_pos (by decide)] at hR
    unfold fX0_goesOn at hR
    have hL' := hL
    unfold isLt at hL'
    simp only [Bool.and_eq_true, decide_eq_true_eq] at hL'
    have n46 : ¬ c (tq c n) = 46 := by omega
    have n42 : ¬ c (tq c n) = 42 := by omega
    by_cases h62 : c i = 62
    · rw [if_pos (show nI (c i) = (62 : Int32) by rw [h62]; rfl), Option.bind_some] at hR
      dsimp only at hR
      rw [if_pos (Or.inr rfl), sm_put] at hR
      refine Or.inl ⟨_, 2, n, hR.symm, ⟨h8, rfl, h4, h3, ht, Or.inr (Or.inr (Or.inl ⟨rfl, by omega, hL, by rw [hq]; exact h62, hW⟩))⟩, ⟨rfl, rfl⟩, Or.inr (Or.inl ⟨rfl, Or.inl ⟨h62, rfl⟩⟩)⟩
    · rw [if_neg (show ¬ nI (c i) = (62 : Int32) by rw [show (62 : Int32) = nI 62 from rfl, ceq 62 (by omega)]; exact h62)] at hR
      have n62 : ¬ c (tq c n + 1) = 62 := by rw [hq]; exact h62
      by_cases h45 : c i = 45
      · rw [if_pos (show nI (c i) = (45 : Int32) by rw [h45]; rfl)] at hR
        have q := closes_eq (M := M) (o := o) hn h8 1 0 true
        rw [show fX0_closes (va_up M 0 o) 1 0 1 = _ from q] at hR
        simp only [Option.bind_some] at hR
        rw [if_pos (b1_or true), Option.bind_some] at hR
        dsimp only at hR
        rw [if_pos (b1_or true)] at hR
        refine Or.inl ⟨_, 0, n + 1, hR.symm, ?_, ⟨rfl, rfl⟩, Or.inr (Or.inl ⟨rfl, Or.inr (Or.inl ⟨h45, rfl⟩)⟩)⟩
        have e45 : c (tq c n + 1) = 45 := by rw [hq]; exact h45
        refine clo_pin h4 h3 ht (Or.inr (Or.inr ⟨hL, Or.inl e45⟩)) ?_ hW ?_ ?_
        · unfold tAct; rw [if_neg n46, if_neg n42, if_pos e45]; rfl
        · unfold tWhat; rw [if_neg n46, if_neg n42, if_pos e45]; rfl
        · unfold tl; rw [if_neg n46, if_neg n42, if_neg n62]; omega
      · rw [if_neg (show ¬ nI (c i) = (45 : Int32) by rw [show (45 : Int32) = nI 45 from rfl, ceq 45 (by omega)]; exact h45)] at hR
        obtain ⟨v1, v2⟩ := isN_c h1 h2
        rw [v1, closes_eq hn h8] at hR
        simp only [Option.bind_some] at hR
        rw [if_pos (b1_or _), Option.bind_some] at hR
        dsimp only at hR
        rw [if_pos (b1_or _)] at hR
        cases hl : isNt (c i) with
        | false =>
          rw [hl] at hR
          exact Or.inr ⟨_, hR.symm, rfl, rfl, Or.inr (Or.inl ⟨rfl, h62, h45, rfl⟩)⟩
        | true =>
          rw [hl] at hR
          refine Or.inl ⟨_, 0, n + 1, hR.symm, ?_, ⟨rfl, rfl⟩, Or.inr (Or.inl ⟨rfl, Or.inr (Or.inr ⟨rfl, rfl⟩)⟩)⟩
          have n45 : ¬ c (tq c n + 1) = 45 := by rw [hq]; exact h45
          refine clo_pin h4 h3 ht (Or.inr (Or.inr ⟨hL, Or.inr (Or.inl (by rw [hq]; exact hl))⟩)) ?_ hW ?_ ?_
          · unfold tAct; rw [if_neg n46, if_neg n42, if_neg n45, if_neg n62]; rfl
          · unfold tWhat; rw [if_neg n46, if_neg n42, if_neg n45, if_neg n62, hq]; exact v2 hl
          · unfold tl; rw [if_neg n46, if_neg n42, if_neg n62]; omega
  · -- a gallery to go to
    rw [if_neg (by decide), if_neg (by decide), if_pos (by decide)] at hR
    have hL' := hL
    unfold isLt at hL'
    simp only [Bool.and_eq_true, decide_eq_true_eq] at hL'
    have n46 : ¬ c (tq c n) = 46 := by omega
    have n42 : ¬ c (tq c n) = 42 := by omega
    have n45 : ¬ c (tq c n + 1) = 45 := by omega
    obtain ⟨v1, v2⟩ := isG_c h1 h2
    rw [v1, closes_eq hn h8] at hR
    simp only [Option.bind_some] at hR
    rw [if_pos (b1_or _)] at hR
    cases hl : isDg (c i) with
    | false =>
      rw [hl] at hR
      exact Or.inr ⟨_, hR.symm, rfl, rfl, Or.inr (Or.inr ⟨Or.inl rfl, rfl⟩)⟩
    | true =>
      rw [hl] at hR
      refine Or.inl ⟨_, 0, n + 1, hR.symm, ?_, ⟨rfl, rfl⟩, Or.inr (Or.inr ⟨Or.inl rfl, rfl, rfl⟩)⟩
      refine clo_pin h4 h3 ht (Or.inr (Or.inr ⟨hL, Or.inr (Or.inr ⟨h62, by rw [hq]; exact hl⟩)⟩)) ?_ hW ?_ ?_
      · unfold tAct; rw [if_neg n46, if_neg n42, if_neg n45, if_pos h62]; rfl
      · unfold tWhat; rw [if_neg n46, if_neg n42, if_neg n45, if_pos h62, hq]; exact v2 hl
      · unfold tl; rw [if_neg n46, if_neg n42, if_pos h62]; omega
  · -- a gallery that falls
    rw [if_neg (by decide), if_neg (by decide), if_neg (by decide)] at hR
    have n46 : ¬ c (tq c n) = 46 := by omega
    obtain ⟨v1, v2⟩ := isG_c h1 h2
    rw [v1, closes_eq hn h8] at hR
    simp only [Option.bind_some] at hR
    rw [if_pos (b1_or _)] at hR
    cases hl : isDg (c i) with
    | false =>
      rw [hl] at hR
      exact Or.inr ⟨_, hR.symm, rfl, rfl, Or.inr (Or.inr ⟨Or.inr rfl, rfl⟩)⟩
    | true =>
      rw [hl] at hR
      refine Or.inl ⟨_, 0, n + 1, hR.symm, ?_, ⟨rfl, rfl⟩, Or.inr (Or.inr ⟨Or.inr rfl, rfl, rfl⟩)⟩
      refine clo_pin h4 h3 ht (Or.inr (Or.inl ⟨h42, by rw [hq]; exact hl⟩)) ?_ hW ?_ ?_
      · unfold tAct; rw [if_neg n46, if_pos h42]; rfl
      · unfold tWhat; rw [if_neg n46, if_pos h42, hq]; exact v2 hl
      · unfold tl; rw [if_neg n46, if_pos h42]; omega
theorem fault_loop {M : am_M} {u : Nat → Nat → Int32} {c : Nat → Nat} {s : Nat} (hs : s ≤ 60) (hc : ∀ i, i < s → 33 ≤ c i ∧ c i ≤ 126) (u11 : u 11 0 = nI s) (u12 : ∀ i, i < s → u 12 i = nI (c i)) : ∀ (k i : Nat) (o : Nat → Nat → Int32) (d n : Nat), i + k = s → pin c s o i d n → ∀ f, k < f →
    (∃ o' d' n', am_it fX0_fault_L12 f (nI i, va_up M 0 o) = some (.inr (nI s, va_up M 0 o')) ∧ am_it (fX2_faultOf_L4 u) f (nI (dst d), nI i) = some (.inr (nI (dst d'), nI s)) ∧ pin c s o' s d' n' ∧ o' 3 = o 3 ∧ o' 4 = o 4) ∨
    (∃ o' z, z < 60 ∧ am_it fX0_fault_L12 f (nI i, va_up M 0 o) = some (.inl (nI z, va_up M 0 o')) ∧ am_it (fX2_faultOf_L4 u) f (nI (dst d), nI i) = some (.inl (nI z)) ∧ o' 3 = o 3 ∧ o' 4 = o 4) := by
  intro k
  induction k with
  | zero =>
    intro i o d n hi hp f hf
    obtain ⟨f, rfl⟩ : ∃ g, f = g + 1 := ⟨f - 1, by omega⟩
    have e : i = s := by omega
    subst e
    refine Or.inl ⟨o, d, n, ?_, ?_, hp, rfl, rfl⟩
    · show fX0_fault_L12 (am_it fX0_fault_L12 f) _ = _
      unfold fX0_fault_L12
      simp only [sm_at, hp.2.2.1]
      rw [if_pos (Int32.le_refl _)]
    · show fX2_faultOf_L4 u (am_it (fX2_faultOf_L4 u) f) _ = _
      unfold fX2_faultOf_L4
      simp only [u11]
      rw [if_pos (Int32.le_refl _)]
  | succ k ih =>
    intro i o d n hi hp f hf
    obtain ⟨f, rfl⟩ : ∃ g, f = g + 1 := ⟨f - 1, by omega⟩
    have his : i < s := by omega
    obtain ⟨c1, c2⟩ := hc i his
    have nle : ¬ nI s ≤ nI i := nI_ge his (by omega)
    have hM : fX2_faultOf_L4 u (am_it (fX2_faultOf_L4 u) f) (nI (dst d), nI i) = (Option.bind (if nI (dst d) = 0 then (if isLt (c i) = true then some (1 : Int32) else if nI (c i) = 42 then some 1 else if nI (c i) = 46 then some 1 else some 0) else (if nI (dst d) = 1 then (if isNt (c i) = true then some (1 : Int32) else if nI (c i) = 45 then some 1 else if nI (c i) = 62 then some 1 else some 0) else some (b1 (isDg (c i))))) fun x4 => if x4 = 0 then some (.inl (nI i)) else (Option.bind (if nI (dst d) = 0 then (if nI (c i) = 46 then some (0 : Int32) else if nI (c i) = 42 then some 2 else some 1) else (if nI (dst d) = 1 then (if nI (c i) = 62 then some (2 : Int32) else some 0) else some 0)) fun x5 => am_it (fX2_faultOf_L4 u) f (x5, nI (i + 1)))) := by
      rw [fX2_faultOf_L4]
      obtain ⟨m1, m2, m3⟩ := inM_c c2
      simp only [u11, if_neg nle, rd60 (show i < 60 by omega), Option.bind_some, u12 i his, m1, m2, m3, ite_b1, nI_add1]
    have hC : am_it fX0_fault_L12 (f + 1) (nI i, va_up M 0 o) = Option.bind (fX0_reads (va_up M 0 o) (nI (c i))) fun r4 => if r4.1 = 0 then some (.inl (nI i, r4.2)) else am_it fX0_fault_L12 f (nI (i + 1), r4.2) := by
      show fX0_fault_L12 (am_it fX0_fault_L12 f) _ = _
      rw [fX0_fault_L12]
      simp only [sm_at, hp.2.2.1, if_neg nle, rd60 (show i < 60 by omega), Option.bind_some, hp.2.2.2.1 i (by omega) his, nI_add1]
    have ceq : ∀ z : Nat, z ≤ 126 → (nI (c i) = nI z) = (c i = z) := fun z hz => lit_eq (by omega) (by omega)
    have x42 : ∀ {α : Type} (a b : α), (if nI (c i) = (42 : Int32) then a else b) = if c i = 42 then a else b := fun a b => by simp only [show (nI (c i) = (42 : Int32)) = (c i = 42) from ceq 42 (by omega)]
    have x46 : ∀ {α : Type} (a b : α), (if nI (c i) = (46 : Int32) then a else b) = if c i = 46 then a else b := fun a b => by simp only [show (nI (c i) = (46 : Int32)) = (c i = 46) from ceq 46 (by omega)]
    have x45 : ∀ {α : Type} (a b : α), (if nI (c i) = (45 : Int32) then a else b) = if c i = 45 then a else b := fun a b => by simp only [show (nI (c i) = (45 : Int32)) = (c i = 45) from ceq 45 (by omega)]
    have x62 : ∀ {α : Type} (a b : α), (if nI (c i) = (62 : Int32) then a else b) = if c i = 62 then a else b := fun a b => by simp only [show (nI (c i) = (62 : Int32)) = (c i = 62) from ceq 62 (by omega)]
    rw [x42, x46, x45, x62, x46, x42, x62] at hM
    rcases read_eq (M := M) hp hs his c1 c2 with ⟨o1, d1, n1, e1, p1, ⟨k3, k4⟩, hd⟩ | ⟨o1, e1, k3, k4, hd⟩
    · rw [e1] at hC
      rw [Option.bind_some] at hC
      dsimp only at hC
      rw [if_neg (by decide)] at hC
      have hM2 : am_it (fX2_faultOf_L4 u) (f + 1) (nI (dst d), nI i) = am_it (fX2_faultOf_L4 u) f (nI (dst d1), nI (i + 1)) := by
        show fX2_faultOf_L4 u (am_it (fX2_faultOf_L4 u) f) _ = _
        rw [hM]
        rcases hd with ⟨rfl, hd⟩ | ⟨rfl, hd⟩ | ⟨hdd, hdg, rfl⟩
        · rw [show nI (dst 0) = 0 from rfl, if_pos rfl, if_pos rfl]
          rcases hd with ⟨h, rfl⟩ | ⟨h, rfl⟩ | ⟨h, rfl⟩
          · have : isLt (c i) = false := by rw [h]; decide
            simp [this, h]
            rfl
          · have : isLt (c i) = false := by rw [h]; decide
            simp [this, h]
            rfl
          · have n46 : ¬ c i = 46 := fun z => by rw [z] at h; exact absurd h (by decide)
            have n42 : ¬ c i = 42 := fun z => by rw [z] at h; exact absurd h (by decide)
            simp [h, n46, n42]
            rfl
        · simp only [show nI (dst 1) = (1 : Int32) from rfl, if_neg (show ¬ (1 : Int32) = 0 by decide), if_true]
          rcases hd with ⟨h, rfl⟩ | ⟨h, rfl⟩ | ⟨h, rfl⟩
          · have : isNt (c i) = false := by rw [h]; decide
            simp [this, h]
            rfl
          · have : isNt (c i) = false := by rw [h]; decide
            simp [this, h]
            rfl
          · have n62 : ¬ c i = 62 := fun z => by rw [z] at h; exact absurd h (by decide)
            simp [h, n62]
            rfl
        · have e2 : nI (dst d) = 2 := by rcases hdd with rfl | rfl <;> rfl
          rw [e2, if_neg (by decide), if_neg (by decide), if_neg (by decide), if_neg (by decide), hdg]
          rfl
      rw [hC, hM2]
      rcases ih (i + 1) o1 d1 n1 (by omega) p1 f (by omega) with ⟨o', d', n', q1, q2, q3, q4, q5⟩ | ⟨o', z, hz, q1, q2, q4, q5⟩
      · exact Or.inl ⟨o', d', n', q1, q2, q3, q4.trans k3, q5.trans k4⟩
      · exact Or.inr ⟨o', z, hz, q1, q2, q4.trans k3, q5.trans k4⟩
    · rw [e1] at hC
      rw [Option.bind_some] at hC
      dsimp only at hC
      rw [if_pos rfl] at hC
      refine Or.inr ⟨o1, i, by omega, hC, ?_, k3, k4⟩
      show fX2_faultOf_L4 u (am_it (fX2_faultOf_L4 u) f) _ = _
      rw [hM]
      rcases hd with ⟨rfl, n46, n42, h⟩ | ⟨rfl, n62, n45, h⟩ | ⟨hdd, h⟩
      · rw [show nI (dst 0) = 0 from rfl, if_pos rfl]
        simp [h, n46, n42]
      · rw [show nI (dst 1) = 1 from rfl, if_neg (by decide), if_pos rfl]
        simp [h, n62, n45]
      · have e2 : nI (dst d) = 2 := by rcases hdd with rfl | rfl <;> rfl
        rw [e2, if_neg (by decide), if_neg (by decide), h]
        rfl
/-- the whole text is read: no fault, n acts -/
def parsed (c : Nat → Nat) (s : Nat) (o : Nat → Nat → Int32) (n : Nat) : Prop := o 8 0 = nI n ∧ tks c o n ∧ tq c n = s
theorem fault_eq {L : Nat → Bool} {M : am_M} (h : Inv L M) : ∃ (c : Nat → Nat) (s : Nat) (o' : Nat → Nat → Int32) (r : Int32), s ≤ 60 ∧ M 1 11 0 = nI s ∧ (∀ i, i < s → 33 ≤ c i ∧ c i ≤ 126 ∧ M 1 12 i = nI (c i)) ∧ fX0_fault M = some (r, va_up M 0 o') ∧ fX2_faultOf (M 1) = some r ∧ o' 3 = M 0 3 ∧ o' 4 = M 0 4 ∧ ((r = -6 ∧ ∃ n, parsed c s o' n) ∨ 0 ≤ r) := by
  obtain ⟨-, -, ⟨s, hs, e1, e2, h3, h4⟩, -⟩ := h
  have hc : ∃ c : Nat → Nat, ∀ i, i < s → 33 ≤ c i ∧ c i ≤ 126 ∧ M 1 12 i = nI (c i) := by
    refine ⟨fun i => (M 1 12 i).toNatClampNeg, fun i hi => ?_⟩
    obtain ⟨c, q1, q2, q3⟩ := h4 i hi
    dsimp only
    rw [q3, nI_clamp (by omega)]
    exact ⟨q1, q2, rfl⟩
  obtain ⟨c, hc⟩ := hc
  have ho : am_put (am_put M 0 8 0) 0 9 0 = va_up M 0 (va_up (va_up (M 0) 8 (va_up (M 0 8) 0 0)) 9 (va_up (M 0 9) 0 0)) := by
    have q : am_put (am_put (va_up M 0 (M 0)) 0 8 0) 0 9 0 = va_up M 0 (va_up (va_up (M 0) 8 (va_up (M 0 8) 0 0)) 9 (va_up (M 0 9) 0 0)) := by
      rw [sm_put, sm_put]
      rfl
    rw [sm_id] at q
    exact q
  obtain ⟨o, hoo⟩ : ∃ o, o = va_up (va_up (M 0) 8 (va_up (M 0 8) 0 0)) 9 (va_up (M 0 9) 0 0) := ⟨_, rfl⟩
  have hp : pin c s o 0 0 0 := by
    rw [hoo]
    exact ⟨rfl, rfl, e1, fun x hx hxs => (h3 x hx).trans (hc x hxs).2.2, fun j hj => absurd hj (by omega), Or.inl ⟨rfl, rfl⟩⟩
  have q := fault_loop (M := M) (u := M 1) hs (fun i hi => ⟨(hc i hi).1, (hc i hi).2.1⟩) e2 (fun i hi => (hc i hi).2.2) s 0 o 0 0 (by omega) hp am_fuel (by show s < 100001; omega)
  have k3 : o 3 = M 0 3 := by rw [hoo]; rfl
  have k4 : o 4 = M 0 4 := by rw [hoo]; rfl
  unfold fX0_fault fX2_faultOf
  rw [ho, ← hoo]
  rcases q with ⟨o', d', n', q1, q2, q3, q4, q5⟩ | ⟨o', z, hz, q1, q2, q4, q5⟩
  · rw [show ((0 : Int32), va_up M 0 o) = (nI 0, va_up M 0 o) from rfl, show ((0 : Int32), (0 : Int32)) = (nI (dst 0), nI 0) from rfl, q1, q2]
    simp only [Option.bind_some, Sum.elim_inr, sm_at, q3.2.1, q3.2.2.1, e2]
    by_cases hd : d' = 0
    · subst hd
      rw [if_pos nI_0, if_pos (show nI (dst 0) = 0 from rfl)]
      rcases q3.2.2.2.2.2 with ⟨-, hq⟩ | ⟨hq, -⟩ | ⟨hq, -⟩ | ⟨hq, -⟩
      · exact ⟨c, s, o', -6, hs, rfl, hc, rfl, rfl, q4.trans k3, q5.trans k4, Or.inl ⟨rfl, n', q3.1, q3.2.2.2.2.1, hq⟩⟩
      · omega
      · omega
      · omega
    · have hd3 : d' ≤ 3 := by rcases q3.2.2.2.2.2 with ⟨hq, -⟩ | ⟨hq, -⟩ | ⟨hq, -⟩ | ⟨hq, -⟩ <;> omega
      have n1 : ¬ nI d' = 0 := nI_ne0 (by omega) (by omega)
      have n2 : ¬ nI (dst d') = 0 := nI_ne0 (by unfold dst; split <;> omega) (by unfold dst; split <;> omega)
      rw [if_neg n1, if_neg n2]
      exact ⟨c, s, o', nI s, hs, rfl, hc, rfl, rfl, q4.trans k3, q5.trans k4, Or.inr (nI_pos' (by omega))⟩
  · rw [show ((0 : Int32), va_up M 0 o) = (nI 0, va_up M 0 o) from rfl, show ((0 : Int32), (0 : Int32)) = (nI (dst 0), nI 0) from rfl, q1, q2]
    exact ⟨c, s, o', nI z, hs, e2, hc, rfl, rfl, q4.trans k3, q5.trans k4, Or.inr (nI_pos' (by omega))⟩
theorem eqc_0 {M : am_M} {o' : Nat → Nat → Int32} (h3 : o' 3 = M 0 3) (h4 : o' 4 = M 0 4) : eqc M (va_up M 0 o') := ⟨sm_ne (by decide), sm_ne (by decide), sm_ne (by decide), by rw [sm_at]; exact h3, by rw [sm_at]; exact h4, fun k _ _ => by rw [sm_ne (by decide)], by rw [sm_ne (by decide)], by rw [sm_ne (by decide)]⟩
theorem op_fault {L : Nat → Bool} {M : am_M} (h : Inv L M) : ∃ (r : Int32) (M1 : am_M), fX0_fault M = some (r, M1) ∧ fX2_fault (M1 1) = some r ∧ Inv L M1 := by
  obtain ⟨c, s, o', r, -, -, -, q1, q2, q3, q4, -⟩ := fault_eq h
  refine ⟨r, _, q1, ?_, Inv_eqc h (eqc_0 q3 q4)⟩
  unfold fX2_fault
  rw [sm_ne (by decide), q2]
  rfl
