/-! OPERATION: keep -/
set_option maxRecDepth 100000
theorem sset_bit (m : Nat → Nat → Int32) (k : Nat) : (sset m).testBit k = (decide (k < 8) && sg m k) := by
  have key : ∀ n, n ≤ 8 → (fo (fun k s => if sg m k = true then ins s k else s) 0 n).testBit k = (decide (k < n) && sg m k) := by
    intro n
    induction n with
    | zero => intro _; show (0 : Nat).testBit k = _; simp
    | succ n ih =>
      intro h
      have e := ih (by omega)
      show (if sg m n = true then ins _ n else _).testBit k = _
      by_cases z : sg m n = true
      · rw [if_pos z, ins_bit, e]
        by_cases q : k = n
        · subst q; simp [z]
        · have : (k < n + 1) = (k < n) := propext (by omega)
          simp [q, this]
      · rw [if_neg z, e]
        by_cases q : k = n
        · subst q; simp [z]
        · have : (k < n + 1) = (k < n) := propext (by omega)
          simp [this]
  exact key 8 (Nat.le_refl _)
/-- a loop that goes on as long as it can -/
theorem can_loop {F : (Int32 × Int32 → Option (Int32 × Int32)) → Int32 × Int32 → Option (Int32 × Int32)} (n : Nat) (q : Nat → Bool) (hn : n < 100000) (h1 : ∀ i, i < n → ∀ rec, F rec (b1 true, nI i) = rec (b1 (q i), nI (i + 1))) (h2 : ∀ i, i ≤ n → ∀ rec, F rec (b1 false, nI i) = some (b1 false, nI i)) (h3 : ∀ rec, F rec (b1 true, nI n) = some (b1 true, nI n)) (x : Bool) : ∃ y, am_it F am_fuel (b1 x, (0 : Int32)) = some (b1 (x && !(List.range n).any fun i => !q i), y) := by
  cases x with
  | false =>
    refine ⟨nI 0, ?_⟩
    have := it_run0 (F := F) (fun i => (b1 false, nI i)) 0 (by omega) (fun i hi => by omega) (h2 0 (by omega))
    exact this
  | true =>
    rcases first_of (fun i => !q i) n with ⟨e, hl⟩ | ⟨t, ht, hh, hl, e⟩
    · refine ⟨nI n, ?_⟩
      rw [e]
      have := it_run0 (F := F) (fun i => (b1 true, nI i)) n (by omega) (fun i hi rec => by
        have := hl i hi
        rw [h1 i hi]
        cases hq : q i with
        | true => rfl
        | false => rw [hq] at this; exact absurd this (by decide)) h3
      exact this
    · refine ⟨nI (t + 1), ?_⟩
      rw [e]
      have := it_run0 (F := F) (fun i => (b1 (decide (i ≤ t)), nI i)) (t + 1) (by omega) (fun i hi rec => by
        have e1 : decide (i ≤ t) = true := decide_eq_true (by omega)
        show F rec (b1 (decide (i ≤ t)), nI i) = rec (b1 (decide (i + 1 ≤ t)), nI (i + 1))
        rw [e1, h1 i (by omega)]
        by_cases hit : i = t
        · subst hit
          have : q i = false := by simpa using hh
          rw [this, decide_eq_false (by omega)]
        · have h5 := hl i (by omega)
          have : q i = true := by simpa using h5
          rw [this, decide_eq_true (by omega)]) (res := (b1 false, nI (t + 1))) (fun rec => by
        show F rec (b1 (decide (t + 1 ≤ t)), nI (t + 1)) = _
        rw [decide_eq_false (by omega)]
        exact h2 (t + 1) (by omega) rec)
      exact this
/-- two that a set holds hush each other in gas -/
def badz (m : Nat → Nat → Int32) (z a b : Nat) : Bool := z.testBit a && (z.testBit b && (decide (m 10 a = m 10 b) && (hb (m 3 0) (m 10 a) && thd (m 11 a) (m 11 b))))
theorem kept_in {M : am_M} {z a : Nat} (hz : z < 256) (ha : a < 8) : am_it (fX0_isKept_L10 M (nI z) (nI a)) am_fuel (0 : Int32) = some (if ((List.range 8).any fun b => badz (M 2) z a b) = true then .inl 0 else .inr (nI 8)) := by
  have step : ∀ b, b < 8 → ∀ rec, fX0_isKept_L10 M (nI z) (nI a) rec (nI b) = if badz (M 2) z a b = true then some (.inl 0) else rec (nI (b + 1)) := by
    intro b hb' rec
    unfold fX0_isKept_L10 badz thd
    simp only [if_neg (n8 hb'), holds_hb, hb_bit (show z < 2 ^ 31 by omega) (show a < 31 by omega), hb_bit (show z < 2 ^ 31 by omega) (show b < 31 by omega), rd8 ha, rd8 hb', Option.bind_some, nI_add1]
    cases z.testBit a with
    | false => simp
    | true =>
      cases z.testBit b with
      | false => simp
      | true =>
        by_cases h1 : M 2 10 a = M 2 10 b
        · by_cases h2 : hb (M 2 3 0) (M 2 10 a) = true
          · by_cases h3 : fX0_isThird (M 2 11 a) (M 2 11 b) = 0
            · simp [← h1, h2, h3]
            · simp [← h1, h2, h3]
          · simp [← h1, h2]
        · simp [h1]
  rcases first_of (fun b => badz (M 2) z a b) 8 with ⟨e, hl⟩ | ⟨t, ht, hh, hl, e⟩
  · rw [e]
    refine it_n 8 (by omega) (fun i hi rec => ?_) (fun rec => ?_)
    · rw [step i hi, hl i hi]; rfl
    · unfold fX0_isKept_L10
      rw [if_pos p8]
      rfl
  · rw [e]
    refine it_n t (by omega) (fun i hi rec => ?_) (fun rec => ?_)
    · rw [step i (by omega), hl i hi]; rfl
    · rw [step t ht, hh]; rfl
def kept (m : Nat → Nat → Int32) (z : Nat) : Bool := !((List.range 8).any fun a => (List.range 8).any fun b => badz m z a b)
theorem kept_eq {M : am_M} {z : Nat} (hz : z < 256) : fX0_isKept M (nI z) = some (b1 (kept (M 2) z)) := by
  have step : ∀ a, a < 8 → ∀ rec, fX0_isKept_L2 M (nI z) rec (nI a) = if ((List.range 8).any fun b => badz (M 2) z a b) = true then some (.inl 0) else rec (nI (a + 1)) := by
    intro a ha rec
    unfold fX0_isKept_L2
    rw [if_neg (n8 ha), kept_in hz ha, Option.bind_some, nI_add1]
    split <;> rfl
  unfold fX0_isKept kept
  rcases first_of (fun a => (List.range 8).any fun b => badz (M 2) z a b) 8 with ⟨e, hl⟩ | ⟨t, ht, hh, hl, e⟩
  · rw [e, it_n (res := .inr (nI 8)) 8 (by omega) (fun i hi rec => by rw [step i hi, hl i hi]; rfl) (fun rec => by unfold fX0_isKept_L2; rw [if_pos p8])]
    rfl
  · rw [e, it_n (res := .inl 0) t (by omega) (fun i hi rec => by rw [step i (by omega), hl i hi]; rfl) (fun rec => by rw [step t ht, hh]; rfl)]
    rfl
/-- how the reference asks -/
def qqM (m u : Nat → Nat → Int32) (z a b : Nat) : Bool := !(z.testBit b && (hb (m 3 0) (m 10 a) && ((sg m b && decide (m 10 b = m 10 a)) && hsh (u 1 a) (u 1 b))))
theorem kp_in {N : am_M} {m : Nat → Nat → Int32} (hr : rel m (nowv (N 1))) {z a : Nat} (hz : z < 256) (ha : a < 8) (x y : Bool) (f : Int32) : ∃ w, am_it (fX2_keep_L102 (b1 y, nI a) (f, nI z) N (m 10 a)) am_fuel (b1 x, (0 : Int32)) = some (b1 (x && !(z.testBit a && (List.range a).any fun b => !qqM m (N 1) z a b)), w) := by
  have h8 : N 1 8 0 = m 3 0 := hr.2.2.2.2.2.1
  cases hza : z.testBit a with
  | false =>
    refine ⟨0, ?_⟩
    have e : ∀ rec, fX2_keep_L102 (b1 y, nI a) (f, nI z) N (m 10 a) rec (b1 x, (0 : Int32)) = some (b1 x, 0) := by
      intro rec
      unfold fX2_keep_L102
      simp only [has_hb, hb_bit (show z < 2 ^ 31 by omega) (show a < 31 by omega), hza]
      split
      · rfl
      · split <;> rfl
    have := it_run0 (F := fX2_keep_L102 (b1 y, nI a) (f, nI z) N (m 10 a)) (fun i => (b1 x, nI i)) 0 (by omega) (fun i hi => by omega) e
    rw [show (x && !(false && (List.range a).any fun b => !qqM m (N 1) z a b)) = x by simp]
    exact this
  | true =>
    have := can_loop (F := fX2_keep_L102 (b1 y, nI a) (f, nI z) N (m 10 a)) a (qqM m (N 1) z a) (by omega) (fun b hb' rec => ?_) (fun i hi rec => ?_) (fun rec => ?_) x
    · rw [Bool.true_and]; exact this
    · have hb8 : b < 8 := by omega
      unfold fX2_keep_L102 qqM
      simp only [if_neg (nI_ge hb' (show a < 2 ^ 31 by omega)), has_hb, hb_bit (show z < 2 ^ 31 by omega) (show a < 31 by omega), hb_bit (show z < 2 ^ 31 by omega) (show b < 31 by omega), hza, h8, singsM_eq hr hb8, hush_eq ha hb8, Option.bind_some, ite_b1, nI_add1, if_true]
      cases z.testBit b with
      | false => simp [b1]
      | true =>
        cases hb (m 3 0) (m 10 a) with
        | false => simp [b1]
        | true =>
          cases (sg m b && decide (m 10 b = m 10 a)) with
          | false => simp [b1]
          | true =>
            cases hsh (N 1 1 a) (N 1 1 b) <;> simp [b1]
    · unfold fX2_keep_L102
      simp only [ite_b1]
      split <;> simp
    · unfold fX2_keep_L102
      simp only []
      rw [if_pos (Int32.le_refl _)]
def qM (m u : Nat → Nat → Int32) (z a : Nat) : Bool := (!z.testBit a || sg m a) && !(z.testBit a && (List.range a).any fun b => !qqM m u z a b)
theorem kp_out {N : am_M} {m : Nat → Nat → Int32} (hr : rel m (nowv (N 1))) {z : Nat} (hz : z < 256) (x : Bool) (f : Int32) : ∃ w, am_it (fX2_keep_L48 N (f, nI z)) am_fuel (b1 x, (0 : Int32)) = some (b1 (x && !(List.range 8).any fun a => !qM m (N 1) z a), w) := by
  refine can_loop (F := fX2_keep_L48 N (f, nI z)) 8 (qM m (N 1) z) (by omega) (fun a ha rec => ?_) (fun i hi rec => ?_) (fun rec => ?_) x
  · obtain ⟨-, q2, -, -, -, -⟩ := rel_now hr ha
    unfold fX2_keep_L48 qM
    simp only [if_neg (n8 ha), ite_b1, show (16 : Int32) + nI a = nI (16 + a) from nI_add 16 a, rd36 (show 16 + a < 36 by omega), q2, Option.bind_some, has_hb, hb_bit (show z < 2 ^ 31 by omega) (show a < 31 by omega), singsM_eq hr ha, decide_true, Bool.and_true, nI_add1, if_true]
    have e : (if (if z.testBit a = true then (1 : Int32) else 0) = 0 then some (1 : Int32) else if sg m a = true then some 1 else some 0) = some (b1 (!z.testBit a || sg m a)) := by
      cases z.testBit a <;> cases sg m a <;> rfl
    rw [e, Option.bind_some]
    obtain ⟨w, hw⟩ := kp_in hr hz ha (!z.testBit a || sg m a) true f
    rw [hw, Option.bind_some]
  · unfold fX2_keep_L48
    simp only [ite_b1]
    split <;> simp
  · unfold fX2_keep_L48
    simp only []
    rw [if_pos p8]
def kf (P : Nat → Bool) (i : Nat) : Nat := fo (fun j b => if pop b < pop j ∧ P j = true then j else b) 0 i
theorem kf_s (P : Nat → Bool) (i : Nat) : kf P (i + 1) = if pop (kf P i) < pop i ∧ P i = true then i else kf P i := rfl
theorem kf_1 (P : Nat → Bool) : kf P 1 = 0 := by
  rw [kf_s]
  exact if_neg (fun q => Nat.lt_irrefl _ q.1)
theorem kf_lt (P : Nat → Bool) : ∀ i, i ≤ 256 → kf P i < 256 := by
  intro i
  induction i with
  | zero => intro _; show 0 < 256; omega
  | succ i ih =>
    intro h
    rw [kf_s]
    split
    · omega
    · exact ih (by omega)
theorem kf_stop {P : Nat → Bool} {A : Nat} (h : ∀ z, A < z → z < 256 → P z = false) : ∀ k, A + 1 + k ≤ 256 → kf P (A + 1 + k) = kf P (A + 1) := by
  intro k
  induction k with
  | zero => intro _; rfl
  | succ k ih =>
    intro hk
    rw [show A + 1 + (k + 1) = (A + 1 + k) + 1 by omega, kf_s, if_neg, ih (by omega)]
    intro q
    rw [h (A + 1 + k) (by omega) (by omega)] at q
    exact absurd q.2 (by decide)
theorem kf_cg {P Q : Nat → Bool} (h : ∀ z, z < 256 → P z = Q z) : kf P 256 = kf Q 256 := fo_congr (fun i hi x => by rw [h i hi])
theorem keep_x0 {M : am_M} {A : Nat} (hA : A < 256) : am_it (fX0_keep_L23 M (nI A)) am_fuel ((0 : Int32), (1 : Int32)) = some (nI (kf (fun z => decide (dif z A = 0) && kept (M 2) z) (A + 1)), nI (A + 1)) := by
  generalize hQ : (fun z => decide (dif z A = 0) && kept (M 2) z) = Q
  have z : ((0 : Int32), (1 : Int32)) = (nI (kf Q (0 + 1)), nI (0 + 1)) := by rw [Nat.zero_add, kf_1]; rfl
  rw [z]
  refine it_run0 (F := fX0_keep_L23 M (nI A)) (fun i => (nI (kf Q (i + 1)), nI (i + 1))) A (by omega) (fun i hi rec => ?_) (fun rec => ?_)
  · have h1 := kf_lt Q (i + 1) (by omega)
    have hp1 := pop_le (i + 1)
    have hp2 := pop_le (kf Q (i + 1))
    have hd := dif_le (a := i + 1) (b := A)
    have eQ : Q (i + 1) = (decide (dif (i + 1) A = 0) && kept (M 2) (i + 1)) := by rw [← hQ]
    have e0 : (nI (i + 1) &&& (nI A ^^^ (-1 : Int32)) = 0) = (dif (i + 1) A = 0) := by
      rw [nI_dif (by omega) (by omega)]
      exact lit_eq (n := dif (i + 1) A) (i := 0) (by omega) (by omega)
    unfold fX0_keep_L23
    simp only [nI_add1, e0]
    rw [if_neg (by rw [lit_lt (by omega) (by omega)]; omega), bitCount_n (by omega), Option.bind_some, bitCount_n (by omega), Option.bind_some, kept_eq (by omega), Option.bind_some, ite_b1, kf_s Q (i + 1), eQ]
    simp only [lit_le (n := pop (i + 1)) (i := pop (kf Q (i + 1))) (by omega) (by omega)]
    by_cases c1 : dif (i + 1) A = 0
    · rw [if_pos c1]
      by_cases c2 : pop (i + 1) ≤ pop (kf Q (i + 1))
      · rw [if_pos c2, Option.bind_some, if_pos rfl, Option.bind_some, if_neg (fun q => by omega)]
      · rw [if_neg c2, Option.bind_some, if_neg (by decide)]
        cases c3 : kept (M 2) (i + 1) with
        | false => rw [if_neg (by decide), Option.bind_some, if_neg (fun q => by simp at q)]
        | true => rw [if_pos rfl, Option.bind_some, if_pos ⟨by omega, by simp [c1]⟩]
    · rw [if_neg c1, Option.bind_some, if_pos rfl, Option.bind_some, if_neg (fun q => by simp [c1] at q)]
  · unfold fX0_keep_L23
    simp only []
    rw [if_pos (by rw [lit_lt (by omega) (by omega)]; omega)]
theorem keep_x2 {N : am_M} {m : Nat → Nat → Int32} (hr : rel m (nowv (N 1))) : am_it (fX2_keep_L20 N) am_fuel ((0 : Int32), (0 : Int32)) = some (nI (kf (fun z => !(List.range 8).any fun a => !qM m (N 1) z a) 256), nI 256) := by
  generalize hQ : (fun z => !(List.range 8).any fun a => !qM m (N 1) z a) = Q
  have z : ((0 : Int32), (0 : Int32)) = (nI (kf Q 0), nI 0) := rfl
  rw [z]
  refine it_run0 (F := fX2_keep_L20 N) (fun i => (nI (kf Q i), nI i)) 256 (by omega) (fun i hi rec => ?_) (fun rec => ?_)
  · have h1 := kf_lt Q i (by omega)
    have hp1 := pop_le i
    have hp2 := pop_le (kf Q i)
    have eQ : Q i = !(List.range 8).any fun a => !qM m (N 1) i a := by rw [← hQ]
    have nl : ¬ (256 : Int32) ≤ nI i := nI_ge (a := i) (b := 256) hi (by omega)
    unfold fX2_keep_L20
    simp only [nI_add1, if_neg nl]
    rw [bits_n (by omega), Option.bind_some, bits_n (by omega), Option.bind_some]
    have e : (if nI (pop i) ≤ nI (pop (kf Q i)) then some (0 : Int32) else some 1) = some (b1 (decide (pop (kf Q i) < pop i))) := by
      by_cases c : pop i ≤ pop (kf Q i)
      · rw [if_pos (by rw [lit_le (by omega) (by omega)]; exact c), decide_eq_false (by omega)]; rfl
      · rw [if_neg (by rw [lit_le (by omega) (by omega)]; exact c), decide_eq_true (by omega)]; rfl
    rw [e, Option.bind_some]
    obtain ⟨w, hw⟩ := kp_out hr hi (decide (pop (kf Q i) < pop i)) (nI (kf Q i))
    rw [hw, Option.bind_some]
    simp only []
    rw [ite_b1, ← eQ, kf_s]
    by_cases c : pop (kf Q i) < pop i ∧ Q i = true
    · rw [if_pos c, if_pos (by simp [c.1, c.2]), Option.bind_some]
    · rw [if_neg c, if_neg (fun q => c (by simpa using q)), Option.bind_some]
  · unfold fX2_keep_L20
    simp only []
    rw [if_pos (show (256 : Int32) ≤ nI 256 by decide)]
theorem thd_sym {a b : Nat} (ha : a < 24) (hb : b < 24) : thd (nI a) (nI b) = thd (nI b) (nI a) := by
  have : ∀ a b : Fin 24, thd (nI a.1) (nI b.1) = thd (nI b.1) (nI a.1) := by decide +kernel
  exact this ⟨a, ha⟩ ⟨b, hb⟩
theorem sg_nt {m : Nat → Nat → Int32} (hw : wf m) {k : Nat} (hk : k < 8) (h : sg m k = true) : ∃ n, n < 24 ∧ m 11 k = nI n := by
  obtain ⟨a, b, -, -, -, -, hn⟩ := hw.2.2.2.2.2.2.1 k hk
  rcases hn with hn | ⟨-, n, hn, e⟩
  · unfold sg at h
    rw [hn] at h
    simp only [Bool.and_eq_true] at h
    exact absurd h.2 (by decide)
  · exact ⟨n, hn, e⟩
theorem kept_iff (m : Nat → Nat → Int32) (z : Nat) : kept m z = true ↔ ∀ a, a < 8 → ∀ b, b < 8 → badz m z a b = false := by
  unfold kept
  rw [Bool.not_eq_true', List.any_eq_false]
  constructor
  · intro h a ha b hb'
    have := h a (List.mem_range.mpr ha)
    rw [Bool.not_eq_true, List.any_eq_false] at this
    simpa using this b (List.mem_range.mpr hb')
  · intro h a ha
    rw [Bool.not_eq_true, List.any_eq_false]
    intro b hb'
    rw [h a (List.mem_range.mp ha) b (List.mem_range.mp hb')]
    decide
theorem pM_iff (m u : Nat → Nat → Int32) (z : Nat) : (!(List.range 8).any fun a => !qM m u z a) = true ↔ ∀ a, a < 8 → z.testBit a = true → sg m a = true ∧ ∀ b, b < a → qqM m u z a b = true := by
  have q : ∀ a, qM m u z a = true ↔ (z.testBit a = true → sg m a = true ∧ ∀ b, b < a → qqM m u z a b = true) := by
    intro a
    unfold qM
    cases z.testBit a with
    | false => simp
    | true =>
      cases sg m a with
      | false => simp
      | true =>
        simp only [Bool.not_true, Bool.false_or, Bool.true_and, Bool.not_eq_true', List.any_eq_false, List.mem_range, true_and, forall_const]
        constructor
        · intro h b hb'
          simpa using h b hb'
        · intro h b hb'
          rw [h b hb']; decide
  rw [Bool.not_eq_true', List.any_eq_false]
  constructor
  · intro h a ha
    have := h a (List.mem_range.mpr ha)
    exact (q a).mp (by simpa using this)
  · intro h a ha
    rw [(q a).mpr (h a (List.mem_range.mp ha))]
    decide
theorem keep_same {m u : Nat → Nat → Int32} (hw : wf m) (hr : rel m (nowv u)) {z : Nat} (hz : z < 256) : (decide (dif z (sset m) = 0) && kept m z) = !(List.range 8).any fun a => !qM m u z a := by
  have hS := (singing_eq m).2
  have hbit : ∀ i, z.testBit i = true → i < 8 := by
    intro i h
    by_cases q : i < 8
    · exact q
    · have : z.testBit i = false := Nat.testBit_lt_two_pow (Nat.lt_of_lt_of_le hz (show 2 ^ 8 ≤ 2 ^ i from Nat.pow_le_pow_right (by omega) (by omega)))
      rw [this] at h; exact absurd h (by decide)
  have hnote : ∀ a, a < 8 → sg m a = true → u 1 a = m 11 a := by
    intro a ha h
    unfold sg at h
    simp only [Bool.and_eq_true] at h
    exact (rel_now hr ha).2.2.2.2.2 h.1
  have hsub : dif z (sset m) = 0 ↔ ∀ a, a < 8 → z.testBit a = true → sg m a = true := by
    constructor
    · intro h a ha hb'
      have := dif_bit (a := z) (b := sset m) (i := a) (by omega) (by omega)
      rw [h, Nat.zero_testBit, hb', sset_bit, decide_eq_true ha] at this
      simpa using this.symm
    · intro h
      apply Nat.eq_of_testBit_eq
      intro i
      rw [dif_bit (by omega) (by omega), Nat.zero_testBit, sset_bit]
      cases q : z.testBit i with
      | false => rfl
      | true =>
        have := hbit i q
        rw [h i this q, decide_eq_true this]; rfl
  have key : ∀ a b, a < 8 → b < 8 → z.testBit a = true → z.testBit b = true → sg m a = true → sg m b = true → (badz m z a b = !qqM m u z a b) := by
    intro a b ha hb' za zb sa sb
    obtain ⟨x, hx, ex⟩ := sg_nt hw ha sa
    obtain ⟨y, hy, ey⟩ := sg_nt hw hb' sb
    unfold badz qqM
    rw [za, zb, sb, hnote a ha sa, hnote b hb' sb, ex, ey, (hsh_thd hx hy).1, thd_sym hy hx]
    have : decide (m 10 a = m 10 b) = decide (m 10 b = m 10 a) := by
      rw [Bool.eq_iff_iff]; simp only [decide_eq_true_eq]; exact eq_comm
    rw [this]
    cases decide (m 10 b = m 10 a) <;> cases hb (m 3 0) (m 10 a) <;> simp
  have bsym : ∀ a b, a < 8 → b < 8 → sg m a = true → sg m b = true → badz m z a b = true → badz m z b a = true := by
    intro a b ha hb' sa sb h
    obtain ⟨x, hx, ex⟩ := sg_nt hw ha sa
    obtain ⟨y, hy, ey⟩ := sg_nt hw hb' sb
    unfold badz at h ⊢
    simp only [Bool.and_eq_true, decide_eq_true_eq] at h ⊢
    obtain ⟨h1, h2, h3, h4, h5⟩ := h
    refine ⟨h2, h1, h3.symm, by rw [← h3]; exact h4, ?_⟩
    rw [ex, ey] at *
    rw [thd_sym hy hx]; exact h5
  have bself : ∀ a, a < 8 → sg m a = true → badz m z a a = false := by
    intro a ha sa
    obtain ⟨x, hx, ex⟩ := sg_nt hw ha sa
    unfold badz
    rw [ex, (hsh_thd hx hx).2]
    simp
  rw [Bool.eq_iff_iff, Bool.and_eq_true, decide_eq_true_eq, hsub, kept_iff, pM_iff]
  constructor
  · rintro ⟨h1, h2⟩ a ha za
    have sa := h1 a ha za
    refine ⟨sa, fun b hb' => ?_⟩
    cases zb : z.testBit b with
    | false => unfold qqM; rw [zb]; simp
    | true =>
      have q := key a b ha (by omega) za zb sa (h1 b (by omega) zb)
      rw [h2 a ha b (by omega)] at q
      simpa using q.symm
  · intro hs
    refine ⟨fun a ha za => (hs a ha za).1, fun a ha b hb' => ?_⟩
    cases hbad : badz m z a b with
    | false => rfl
    | true =>
      have hz2 : z.testBit a = true ∧ z.testBit b = true := by
        have hbad' := hbad
        unfold badz at hbad'
        simp only [Bool.and_eq_true] at hbad'
        exact ⟨hbad'.1, hbad'.2.1⟩
      obtain ⟨sa, qa⟩ := hs a ha hz2.1
      obtain ⟨sb, qb⟩ := hs b hb' hz2.2
      rcases Nat.lt_trichotomy a b with q | q | q
      · have q1 := bsym a b ha hb' sa sb hbad
        rw [key b a hb' ha hz2.2 hz2.1 sb sa, qb a q] at q1
        exact absurd q1 (by decide)
      · subst q
        rw [bself a ha sa] at hbad
        exact absurd hbad (by decide)
      · rw [key a b ha hb' hz2.1 hz2.2 sa sb, qa b q] at hbad
        exact absurd hbad (by decide)
theorem op_keep {L : Nat → Bool} {M : am_M} (h : Inv L M) (a : Int32) : ∃ r M2, fX0_keep M a = some r ∧ fX2_keep M a = some (r, M2) ∧ Inv L M2 := by
  unfold fX0_keep fX2_keep
  rw [isEnd_in]
  by_cases g1 : fX2_in a 0 1 = 0
  · exact ⟨-2, M, by rw [if_pos g1], by rw [if_pos g1], h⟩
  rw [if_neg g1, if_neg g1]
  obtain ⟨x, hx, rfl⟩ := in_n (n := 1) (by omega) g1
  have hr := asn_rel h.2.1
  have hS := (singing_eq (M 2)).2
  have e1 : kf (fun z => decide (dif z (sset (M 2)) = 0) && kept (M 2) z) (sset (M 2) + 1) = kf (fun z => decide (dif z (sset (M 2)) = 0) && kept (M 2) z) 256 := by
    have := kf_stop (P := fun z => decide (dif z (sset (M 2)) = 0) && kept (M 2) z) (A := sset (M 2)) (fun z h1 h2 => ?_) (255 - sset (M 2)) (by omega)
    · rw [show sset (M 2) + 1 + (255 - sset (M 2)) = 256 by omega] at this
      exact this.symm
    · have : ¬ dif z (sset (M 2)) = 0 := by
        intro q
        have hle : z &&& sset (M 2) = z := by
          apply Nat.eq_of_testBit_eq
          intro i
          have := dif_bit (a := z) (b := sset (M 2)) (i := i) (by omega) (by omega)
          rw [q, Nat.zero_testBit] at this
          rw [Nat.testBit_and]
          cases hz : z.testBit i with
          | false => rfl
          | true => rw [hz] at this; simpa using this.symm
        have := Nat.and_le_right (n := z) (m := sset (M 2))
        omega
      simp [this]
  have e2 := kf_cg (P := fun z => decide (dif z (sset (M 2)) = 0) && kept (M 2) z) (Q := fun z => !(List.range 8).any fun a => !qM (M 2) (asnM M 1) z a) (fun z hz => keep_same h.1 hr hz)
  rw [(singing_eq (M 2)).1, Option.bind_some, keep_x0 hS, Option.bind_some, e1, e2, asNow_eq, Option.bind_some, keep_x2 hr, Option.bind_some]
  generalize hK : kf (fun z => !(List.range 8).any fun a => !qM (M 2) (asnM M 1) z a) 256 = K
  have hK2 : K < 256 := by rw [← hK]; exact kf_lt _ 256 (Nat.le_refl _)
  simp only []
  rw [bitCount_n (by omega), bits_n (by omega), Option.bind_some, Option.bind_some]
  rcases (show x = 0 ∨ x = 1 by omega) with rfl | rfl
  · exact ⟨nI (pop K), asnM M, by rw [if_pos (by decide)], by rw [if_neg (by decide)], Inv_eqc h (asn_eqc M)⟩
  · exact ⟨nI K, asnM M, by rw [if_neg (by decide)], by rw [if_pos (by decide)], Inv_eqc h (asn_eqc M)⟩
