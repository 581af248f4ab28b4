/-! LIGHT: what both systems compute of light, as one plain function of a mine -/
set_option maxRecDepth 100000
theorem l8 {i : Nat} (h : i < 1000000) : ((8 : Int32) ≤ nI i) = (8 ≤ i) := lit_le (n := 8) (by omega) (by omega)
theorem l10 {i : Nat} (h : i < 1000000) : ((10 : Int32) ≤ nI i) = (10 ≤ i) := lit_le (n := 10) (by omega) (by omega)
theorem l36 {i : Nat} (h : i < 1000000) : ((36 : Int32) ≤ nI i) = (36 ≤ i) := lit_le (n := 36) (by omega) (by omega)
/-- 1 or 0 -/
def b1 (b : Bool) : Int32 := if b = true then 1 else 0
theorem b1_0 (b : Bool) : (b1 b = 0) = (b = false) := by cases b <;> decide
theorem b1_1 (b : Bool) : (b1 b = 1) = (b = true) := by cases b <;> decide
theorem ite_b1 {α : Type} (b : Bool) (x y : α) : (if b1 b = 0 then x else y) = if b = true then y else x := by cases b <;> rfl
theorem rd8 {f : Nat → Int32} {i : Nat} (h : i < 8) : am_rd f 8 (nI i) = some (f i) := rd_n h (by omega)
theorem rd10 {f : Nat → Int32} {i : Nat} (h : i < 10) : am_rd f 10 (nI i) = some (f i) := rd_n h (by omega)
theorem rd36 {f : Nat → Int32} {i : Nat} (h : i < 36) : am_rd f 36 (nI i) = some (f i) := rd_n h (by omega)
theorem wr8 {M : am_M} {j k i : Nat} {v : Int32} (h : i < 8) : am_wr M j k 8 (nI i) v = some (am_up M j k i v) := wr_n h (by omega)
theorem wr10 {M : am_M} {j k i : Nat} {v : Int32} (h : i < 10) : am_wr M j k 10 (nI i) v = some (am_up M j k i v) := wr_n h (by omega)
theorem wr36 {M : am_M} {j k i : Nat} {v : Int32} (h : i < 36) : am_wr M j k 36 (nI i) v = some (am_up M j k i v) := wr_n h (by omega)
theorem n8 {i : Nat} (h : i < 8) : ¬ (8 : Int32) ≤ nI i := by rw [l8 (by omega)]; omega
theorem n10 {i : Nat} (h : i < 10) : ¬ (10 : Int32) ≤ nI i := by rw [l10 (by omega)]; omega
theorem n36 {i : Nat} (h : i < 36) : ¬ (36 : Int32) ≤ nI i := by rw [l36 (by omega)]; omega
theorem p8 : (8 : Int32) ≤ nI 8 := by decide
theorem p10 : (10 : Int32) ≤ nI 10 := by decide
theorem p36 : (36 : Int32) ≤ nI 36 := by decide
theorem holds_b1 (s k : Int32) : fX0_holds s k = b1 (hb s k) := holds_hb s k
theorem has_b1 (s k : Int32) : fX2_has s k = b1 (hb s k) := has_hb s k
theorem there_b1 (m : Nat → Nat → Int32) (k : Int32) : fX1_isThere m k = b1 (hb (m 5 0) k) := holds_hb _ _
theorem thereM_b1 {m : Nat → Nat → Int32} {k : Nat} (hk : k < 8) : fX2_isThere m (nI k) = b1 (hb (m 2 0) (nI k)) := there_n hk
def sg (m : Nat → Nat → Int32) (k : Nat) : Bool := hb (m 5 0) (nI k) && decide (0 ≤ m 11 k)
def thd (a b : Int32) : Bool := !decide (fX0_isThird a b = 0)
def tkp (m : Nat → Nat → Int32) (k e : Nat) : Bool := sg m e && decide (m 10 e = m 10 k) && thd (m 11 e) (m 11 k)
def tk (m : Nat → Nat → Int32) (k : Nat) : Bool := (List.range 8).any (fun e => tkp m k e) && hb (m 3 0) (m 10 k)
def ct (m : Nat → Nat → Int32) (g : Int32) (k : Nat) : Bool := sg m k && decide (m 10 k = g) && !tk m k
def own (m : Nat → Nat → Int32) (g : Int32) : Int32 := fo (fun k best => if ct m g k = true then jv_max best (1 + m 11 k) else best) 0 8
def lit (m : Nat → Nat → Int32) (g : Int32) : Int32 := fo (fun e best => if m 1 e = g then jv_max best (own m (nI e) / 2) else best) (own m g) 10
def lamp (m : Nat → Nat → Int32) : Int32 := fo (fun g s => s ||| (if lit m (nI g) ≤ 0 then 0 else (1 : Int32) <<< (nI g &&& 31))) 0 10
theorem sings_eq {m : Nat → Nat → Int32} {k : Nat} (hk : k < 8) : fX1_sings m (nI k) = some (b1 (sg m k)) := by
  unfold fX1_sings sg
  rw [there_b1, ite_b1, rd8 hk]
  cases h : hb (m 5 0) (nI k) with
  | false => rfl
  | true =>
    rw [if_pos rfl, Option.bind_some]
    by_cases h2 : m 11 k < 0
    · rw [if_pos h2]
      have : ¬ 0 ≤ m 11 k := Int32.not_le.mpr h2
      simp [this, b1]
    · rw [if_neg h2]
      have : 0 ≤ m 11 k := Int32.not_lt.mp h2
      simp [this, b1]
/-- the first of n that p holds of, or none -/
theorem first_of (p : Nat → Bool) (n : Nat) : ((List.range n).any p = false ∧ ∀ i, i < n → p i = false) ∨ ∃ t, t < n ∧ p t = true ∧ (∀ i, i < t → p i = false) ∧ (List.range n).any p = true := by
  by_cases h : ∃ i, i < n ∧ p i = true
  · obtain ⟨t, ht, hl⟩ := pk_least (fun i => i < n ∧ p i = true) h
    refine Or.inr ⟨t, ht.1, ht.2, fun i hi => ?_, List.any_eq_true.mpr ⟨t, List.mem_range.mpr ht.1, ht.2⟩⟩
    cases hp : p i with
    | false => rfl
    | true => exact absurd ⟨by omega, hp⟩ (hl i hi)
  · have h1 : ∀ i, i < n → p i = false := fun i hi => by
      cases hp : p i with
      | false => rfl
      | true => exact absurd ⟨i, hi, hp⟩ h
    refine Or.inl ⟨?_, h1⟩
    rw [List.any_eq_false]
    intro i hi
    rw [h1 i (List.mem_range.mp hi)]
    simp
theorem taken_step {m : Nat → Nat → Int32} {k i : Nat} (hk : k < 8) (hi : i < 8) (rec : Int32 → Option (Int32 ⊕ Int32)) : fX1_isTaken_L2 m (nI k) rec (nI i) = if tkp m k i = true then some (.inl (b1 (hb (m 3 0) (m 10 k)))) else rec (nI (i + 1)) := by
  unfold fX1_isTaken_L2 tkp
  simp only [if_neg (n8 hi), sings_eq hi, Option.bind_some, ite_b1, rd8 hi, rd8 hk, nI_add1]
  cases h : sg m i with
  | false => simp
  | true =>
    rw [if_pos rfl]
    by_cases h2 : m 10 i = m 10 k
    · rw [if_pos h2, holds_b1]
      unfold thd
      by_cases h3 : fX0_isThird (m 11 i) (m 11 k) = 0
      · rw [if_pos h3]; simp [h2, h3]
      · rw [if_neg h3]; simp [h2, h3]
    · rw [if_neg h2]; simp [h2]
theorem taken_eq {m : Nat → Nat → Int32} {k : Nat} (hk : k < 8) : fX1_isTaken m (nI k) = some (b1 (tk m k)) := by
  unfold fX1_isTaken tk
  rcases first_of (fun e => tkp m k e) 8 with ⟨h1, h2⟩ | ⟨t, ht, hp, hl, ha⟩
  · rw [it_n (res := .inr (nI 8)) 8 (by omega) (fun i hi rec => by rw [taken_step hk hi, h2 i hi]; rfl) (fun rec => by unfold fX1_isTaken_L2; rw [if_pos (by rw [l8 (by omega)]; omega)]), h1]
    rfl
  · rw [it_n (res := .inl (b1 (hb (m 3 0) (m 10 k)))) t (by omega) (fun i hi rec => by rw [taken_step hk (by omega), hl i hi]; rfl) (fun rec => by rw [taken_step hk ht, hp]; rfl), ha]
    rfl
theorem sungIn_eq (m : Nat → Nat → Int32) (g : Int32) : fX1_sungIn m g = some (own m g) := by
  unfold fX1_sungIn own
  rw [it_fo (F := fX1_sungIn_L4 m g) (fun k best => if ct m g k = true then jv_max best (1 + m 11 k) else best) 0 8 (fun x => (x, nI 8)) (fun _ _ => True) (by omega) trivial (fun i x hi _ => ⟨fun rec => ?_, trivial⟩) (fun x _ rec => ?_)]
  · rfl
  · unfold fX1_sungIn_L4
    dsimp only
    simp only [if_neg (n8 hi), sings_eq hi, Option.bind_some, ite_b1, rd8 hi, taken_eq hi, nI_add1]
    unfold ct
    cases h : sg m i with
    | false => simp
    | true =>
      rw [if_pos rfl]
      by_cases h2 : m 10 i = g
      · rw [if_pos h2]
        cases h3 : tk m i with
        | false => simp [h2]
        | true => simp [h2]
      · rw [if_neg h2]; simp [h2]
  · unfold fX1_sungIn_L4
    dsimp only
    rw [if_pos (by rw [l8 (by omega)]; omega)]
theorem light_eq (m : Nat → Nat → Int32) (g : Int32) : fX1_light m g = some (lit m g) := by
  unfold fX1_light lit
  rw [sungIn_eq]
  dsimp only [Option.bind]
  rw [it_fo (F := fX1_light_L8 m g) (fun e best => if m 1 e = g then jv_max best (own m (nI e) / 2) else best) (own m g) 10 (fun x => (x, nI 10)) (fun _ _ => True) (by omega) trivial (fun i x hi _ => ⟨fun rec => ?_, trivial⟩) (fun x _ rec => ?_)]
  · unfold fX1_light_L8
    dsimp only
    rw [if_neg (by rw [l10 (by omega)]; omega), rd_n hi (by omega), sungIn_eq, nI_add1]
    dsimp only [Option.bind]
    by_cases h : m 1 i = g
    · simp [h]
    · simp [h]
  · unfold fX1_light_L8
    dsimp only
    rw [if_pos (by rw [l10 (by omega)]; omega)]
theorem lamps_eq (m : Nat → Nat → Int32) : fX1_lamps m = some (lamp m) := by
  unfold fX1_lamps lamp
  rw [it_fo (F := fX1_lamps_L4 m) (fun g s => s ||| (if lit m (nI g) ≤ 0 then 0 else (1 : Int32) <<< (nI g &&& 31))) 0 10 (fun x => (x, nI 10)) (fun _ _ => True) (by omega) trivial (fun i x hi _ => ⟨fun rec => ?_, trivial⟩) (fun x _ rec => ?_)]
  · rfl
  · unfold fX1_lamps_L4
    dsimp only
    rw [if_neg (by rw [l10 (by omega)]; omega), light_eq, nI_add1]
    dsimp only [Option.bind]
    by_cases h : lit m (nI i) ≤ 0
    · simp [h]
    · simp [h]
  · unfold fX1_lamps_L4
    dsimp only
    rw [if_pos (by rw [l10 (by omega)]; omega)]
/-! the reference's light -/
theorem rel_now {m u : Nat → Nat → Int32} (h : rel m (nowv u)) {k : Nat} (hk : k < 8) : u 1 (8 + k) = m 9 k ∧ u 1 (16 + k) = m 10 k ∧ u 3 k = m 6 k ∧ u 4 k = m 7 k ∧ u 5 k = m 8 k ∧ (hb (m 5 0) (nI k) = true → u 1 k = m 11 k) := h.1 k hk
theorem rel_there {m u : Nat → Nat → Int32} (h : rel m (nowv u)) : u 2 0 = m 5 0 := h.2.2.2.2.1
theorem rel_gas {m u : Nat → Nat → Int32} (h : rel m (nowv u)) : u 8 0 = m 3 0 := h.2.2.2.2.2.1
theorem rel_gal {m u : Nat → Nat → Int32} (h : rel m (nowv u)) {g : Nat} (hg : g < 10) : u 1 (24 + g) = m 2 g ∧ u 6 g = m 0 g ∧ u 7 g = m 1 g := h.2.1 g hg
theorem singsM_eq {m u : Nat → Nat → Int32} (h : rel m (nowv u)) {k : Nat} (hk : k < 8) (g : Int32) : fX2_sings u (nI k) g = some (b1 (sg m k && decide (m 10 k = g))) := by
  unfold fX2_sings sg
  rw [thereM_b1 hk, ite_b1, rel_there h, show (16 : Int32) + nI k = nI (16 + k) from nI_add 16 k, rd36 (show 16 + k < 36 by omega), rd36 (show k < 36 by omega), (rel_now h hk).2.1]
  cases hz : hb (m 5 0) (nI k) with
  | false => rfl
  | true =>
    rw [if_pos rfl, Option.bind_some, Option.bind_some]
    rw [(rel_now h hk).2.2.2.2.2 hz]
    by_cases h1 : m 10 k = g
    · rw [if_pos h1]
      by_cases h2 : m 11 k < 0
      · rw [if_pos h2]
        have : ¬ 0 ≤ m 11 k := Int32.not_le.mpr h2
        simp [this, b1]
      · rw [if_neg h2]
        have : 0 ≤ m 11 k := Int32.not_lt.mp h2
        simp [this, b1, h1]
    · rw [if_neg h1]
      simp [h1, b1]
def hsh (a b : Int32) : Bool := (fun x : Int32 => decide (x = 3) || decide (x = 4)) (if 0 ≤ a - b then a - b else -(a - b))
theorem hsh_thd {a b : Nat} (ha : a < 24) (hb : b < 24) : hsh (nI a) (nI b) = thd (nI b) (nI a) ∧ thd (nI a) (nI a) = false := by
  have : ∀ a b : Fin 24, hsh (nI a.1) (nI b.1) = thd (nI b.1) (nI a.1) ∧ thd (nI a.1) (nI a.1) = false := by decide +kernel
  exact this ⟨a, ha⟩ ⟨b, hb⟩
theorem hush_eq {u : Nat → Nat → Int32} {a b : Nat} (ha : a < 8) (hb : b < 8) : fX2_areHushed u (nI a) (nI b) = some (b1 (hsh (u 1 a) (u 1 b))) := by
  unfold fX2_areHushed hsh
  rw [rd_n (by omega) (by omega), rd_n (by omega) (by omega)]
  dsimp only [Option.bind]
  have e : (if 0 ≤ u 1 a - u 1 b then some (u 1 a - u 1 b) else some (-(u 1 a - u 1 b))) = some (if 0 ≤ u 1 a - u 1 b then u 1 a - u 1 b else -(u 1 a - u 1 b)) := by split <;> rfl
  rw [e]
  dsimp only
  generalize (if 0 ≤ u 1 a - u 1 b then u 1 a - u 1 b else -(u 1 a - u 1 b)) = x
  by_cases h3 : x = 3
  · rw [if_pos h3]; simp [h3, b1]
  · rw [if_neg h3]
    by_cases h4 : x = 4
    · rw [if_pos h4]; simp [h4, b1]
    · rw [if_neg h4]; simp [h3, h4, b1]
theorem sg_note {m : Nat → Nat → Int32} (hw : wf m) {k : Nat} (hk : k < 8) (hs : sg m k = true) : hb (m 5 0) (nI k) = true ∧ ∃ n, n < 24 ∧ m 11 k = nI n := by
  unfold sg at hs
  simp only [Bool.and_eq_true, decide_eq_true_eq] at hs
  refine ⟨hs.1, ?_⟩
  obtain ⟨a, b, -, -, -, -, h⟩ := hw.2.2.2.2.2.2.1 k hk
  rcases h with h | h
  · rw [h] at hs; exact absurd hs.2 (by decide)
  · exact h.2
/-- what the reference's inner loop asks of x -/
def bad (m : Nat → Nat → Int32) (g : Int32) (k x : Nat) : Bool := hb (m 3 0) g && (!decide (x = k) && ((sg m x && decide (m 10 x = g)) && thd (m 11 x) (m 11 k)))
theorem bad_tk {m : Nat → Nat → Int32} (hw : wf m) {g : Int32} {k : Nat} (hk : k < 8) (hs : sg m k = true) (hg : m 10 k = g) : (List.range 8).any (fun x => bad m g k x) = tk m k := by
  unfold tk
  rw [hg]
  obtain ⟨-, n, hn, en⟩ := sg_note hw hk hs
  have e : ∀ x, bad m g k x = (hb (m 3 0) g && tkp m k x) := by
    intro x
    unfold bad tkp
    rw [hg]
    by_cases hx : x = k
    · have : thd (m 11 x) (m 11 k) = false := by rw [hx, en]; exact (hsh_thd hn hn).2
      simp [hx, this]
      intro _ _ _
      rw [en]
      exact (hsh_thd hn hn).2
    · simp [hx]
  rw [show (fun x => bad m g k x) = (fun x => hb (m 3 0) g && tkp m k x) from funext e]
  cases hb (m 3 0) g with
  | false => simp
  | true => simp
theorem inner_step {m u : Nat → Nat → Int32} (hw : wf m) (h : rel m (nowv u)) {g : Int32} {k i : Nat} (hk : k < 8) (hs : sg m k = true) (hi : i < 8) (best : Int32) (rec : Int32 × Int32 → Option (Int32 × Int32)) : fX2_ownLight_L21 u g (best, nI k) rec (1, nI i) = rec (b1 (!bad m g k i), nI (i + 1)) := by
  unfold fX2_ownLight_L21 bad
  dsimp only
  simp only [if_neg (n8 hi), if_neg (show ¬ (1 : Int32) = 0 by decide), has_b1, ite_b1, rel_gas h, singsM_eq h hi, hush_eq hk hi, nI_add1, Option.bind_some]
  cases h1 : hb (m 3 0) g with
  | false => rfl
  | true =>
    rw [if_pos rfl]
    by_cases h2 : i = k
    · rw [if_pos (by rw [h2])]; simp [h2, b1]
    · rw [if_neg (by rw [lit_eq (by omega) (by omega)]; exact h2)]
      cases h3 : (sg m i && decide (m 10 i = g)) with
      | false => simp [b1]
      | true =>
        rw [if_pos rfl]
        simp only [Bool.and_eq_true, decide_eq_true_eq] at h3
        obtain ⟨p1, n1, q1, e1⟩ := sg_note hw hk hs
        obtain ⟨p2, n2, q2, e2⟩ := sg_note hw hi h3.1
        rw [(rel_now h hk).2.2.2.2.2 p1, (rel_now h hi).2.2.2.2.2 p2, e1, e2, (hsh_thd q1 q2).1]
        cases thd (nI n2) (nI n1) with
        | false => simp [h2, b1]
        | true => simp [h2, b1]
theorem inner_eq {m u : Nat → Nat → Int32} (hw : wf m) (h : rel m (nowv u)) {g : Int32} {k : Nat} (hk : k < 8) (best : Int32) : ∃ z, am_it (fX2_ownLight_L21 u g (best, nI k)) am_fuel (b1 (sg m k && decide (m 10 k = g)), (0 : Int32)) = some (b1 (ct m g k), z) := by
  unfold ct
  cases h0 : (sg m k && decide (m 10 k = g)) with
  | false =>
    refine ⟨nI 0, it_run0 (fun _ => (b1 false, nI 0)) 0 (by omega) (fun i hi => absurd hi (by omega)) (fun rec => ?_)⟩
    unfold fX2_ownLight_L21
    dsimp only
    rw [if_neg (by rw [l8 (by omega)]; omega), if_pos (by decide)]
    rfl
  | true =>
    simp only [Bool.and_eq_true, decide_eq_true_eq] at h0
    rw [← bad_tk hw hk h0.1 h0.2, Bool.true_and]
    rcases first_of (fun x => bad m g k x) 8 with ⟨e1, e2⟩ | ⟨t, ht, hp, hl, ha⟩
    · rw [e1]
      refine ⟨nI 8, it_run0 (fun i => (b1 true, nI i)) 8 (by omega) (fun i hi rec => ?_) (fun rec => ?_)⟩
      · have := inner_step (g := g) hw h hk h0.1 hi best rec
        rw [e2 i hi] at this
        exact this
      · unfold fX2_ownLight_L21
        dsimp only
        rw [if_pos (by rw [l8 (by omega)]; omega)]
        rfl
    · rw [ha]
      refine ⟨nI (t + 1), it_run0 (fun i => (b1 (decide (i ≤ t)), nI i)) (t + 1) (by omega) (fun i hi rec => ?_) (fun rec => ?_)⟩
      · have hit : i ≤ t := by omega
        have := inner_step (g := g) hw h hk h0.1 (show i < 8 by omega) best rec
        simp only [hit, decide_true]
        have e3 : (!bad m g k i) = decide (i + 1 ≤ t) := by
          by_cases e : i = t
          · subst e; rw [hp]; simp
          · rw [hl i (by omega)]
            have : i + 1 ≤ t := by omega
            simp [this]
        rw [e3] at this
        exact this
      · unfold fX2_ownLight_L21
        dsimp only
        have e4 : decide (t + 1 ≤ t) = false := by simp
        rw [e4]
        by_cases e : 8 ≤ t + 1
        · rw [if_pos (by rw [l8 (by omega)]; exact e)]; rfl
        · rw [if_neg (by rw [l8 (by omega)]; exact e), if_pos (by decide)]; rfl
theorem jmax (a b : Int32) : jv_max a b = if b ≤ a then a else b := by
  unfold jv_max
  by_cases h : b ≤ a
  · rw [if_pos h]
    by_cases h2 : a < b
    · exact absurd h (Int32.not_le.mpr h2)
    · rw [if_neg h2]
  · rw [if_neg h, if_pos (Int32.not_le.mp h)]
theorem ownM_eq {m u : Nat → Nat → Int32} (hw : wf m) (h : rel m (nowv u)) (g : Int32) : fX2_ownLight u g = some (own m g) := by
  unfold fX2_ownLight own
  rw [it_fo (F := fX2_ownLight_L4 u g) (fun k best => if ct m g k = true then jv_max best (1 + m 11 k) else best) 0 8 (fun x => (x, nI 8)) (fun _ _ => True) (by omega) trivial (fun i x hi _ => ⟨fun rec => ?_, trivial⟩) (fun x _ rec => ?_)]
  · rfl
  · unfold fX2_ownLight_L4
    dsimp only
    obtain ⟨z, hz⟩ := inner_eq hw h (g := g) hi x
    simp only [if_neg (n8 hi), singsM_eq h hi, Option.bind_some, hz, ite_b1, rd36 (show i < 36 by omega), nI_add1]
    cases hc : ct m g i with
    | false => simp
    | true =>
      have hs : sg m i = true := by
        unfold ct at hc
        simp only [Bool.and_eq_true] at hc
        exact hc.1.1
      rw [if_pos rfl, (rel_now h hi).2.2.2.2.2 (sg_note hw hi hs).1, Int32.add_comm (m 11 i) 1, if_pos rfl, jmax]
      by_cases hq : 1 + m 11 i ≤ x
      · rw [if_pos hq, if_pos hq]; rfl
      · rw [if_neg hq, if_neg hq]; rfl
  · unfold fX2_ownLight_L4
    dsimp only
    rw [if_pos (by rw [l8 (by omega)]; omega)]
theorem jmax_ge (a b : Int32) : a ≤ jv_max a b := by
  unfold jv_max
  by_cases h : a < b
  · rw [if_pos h]; exact Int32.le_of_lt h
  · rw [if_neg h]; exact Int32.le_refl a
theorem own_pos (m : Nat → Nat → Int32) (g : Int32) : 0 ≤ own m g := by
  unfold own
  refine fo_inv (fun _ x => (0 : Int32) ≤ x) 8 (Int32.le_refl 0) (fun i x _ hx => ?_) 8 (Nat.le_refl _)
  split
  · exact Int32.le_trans hx (jmax_ge _ _)
  · exact hx
theorem half_le {x : Int32} (h : 0 ≤ x) : x / 2 ≤ x := by
  obtain ⟨n, hn, e⟩ := nI_of (Int32.not_lt.mpr h)
  rw [e, show (2 : Int32) = nI 2 from rfl, pk_div hn (by omega) (by omega), nI_leI (by omega) hn]
  omega
theorem fo_congr_inv {α : Type} {f g : Nat → α → α} {a : α} (I : Nat → α → Prop) (N : Nat) (h0 : I 0 a) (hs : ∀ i x, i < N → I i x → f i x = g i x ∧ I (i + 1) (f i x)) : ∀ n, n ≤ N → fo f a n = fo g a n ∧ I n (fo f a n) := by
  intro n
  induction n with
  | zero => intro _; exact ⟨rfl, h0⟩
  | succ n ih =>
    intro h
    obtain ⟨e, hi⟩ := ih (by omega)
    obtain ⟨e2, h2⟩ := hs n _ (by omega) hi
    refine ⟨?_, h2⟩
    show f n (fo f a n) = g n (fo g a n)
    rw [e2, e]
theorem lightM_eq {m u : Nat → Nat → Int32} (hw : wf m) (h : rel m (nowv u)) {g : Nat} (hg : g < 10) : fX2_lightOf u (nI g) = some (lit m (nI g)) := by
  have e0 : lit m (nI g) = fo (fun e best => if e = g then best else if m 1 e = nI g then jv_max best (own m (nI e) / 2) else best) (own m (nI g)) 10 := by
    unfold lit
    refine (fo_congr_inv (fun _ x => own m (nI g) ≤ x) 10 (Int32.le_refl _) (fun i x hi hx => ?_) 10 (Nat.le_refl _)).1
    refine ⟨?_, ?_⟩
    · by_cases e : i = g
      · subst e
        rw [if_pos rfl]
        by_cases h1 : m 1 i = nI i
        · rw [if_pos h1, jmax, if_pos (Int32.le_trans (half_le (own_pos m _)) hx)]
        · rw [if_neg h1]
      · rw [if_neg e]
    · split
      · exact Int32.le_trans hx (jmax_ge _ _)
      · exact hx
  unfold fX2_lightOf
  rw [ownM_eq hw h, Option.bind_some, e0]
  rw [it_fo (F := fX2_lightOf_L8 u (nI g)) (fun e best => if e = g then best else if m 1 e = nI g then jv_max best (own m (nI e) / 2) else best) (own m (nI g)) 10 (fun x => (x, nI 10)) (fun _ _ => True) (by omega) trivial (fun i x hi _ => ⟨fun rec => ?_, trivial⟩) (fun x _ rec => ?_)]
  · rfl
  · unfold fX2_lightOf_L8
    simp only [if_neg (n10 hi), rd10 hi, (rel_gal h hi).2.2, ownM_eq hw h, Option.bind_some, nI_add1]
    by_cases e : i = g
    · rw [if_pos (by rw [e]), if_pos e]; rfl
    · rw [if_neg (by rw [lit_eq (by omega) (by omega)]; exact e), if_neg e]
      by_cases h1 : m 1 i = nI g
      · rw [if_pos h1, if_pos h1, jmax]
        by_cases h2 : own m (nI i) / 2 ≤ x
        · rw [if_pos h2, if_pos h2]; rfl
        · rw [if_neg h2, if_neg h2]; rfl
      · rw [if_neg h1, if_neg h1]; rfl
  · unfold fX2_lightOf_L8
    simp only [if_pos p10]
theorem lampsM_eq {m u : Nat → Nat → Int32} (hw : wf m) (h : rel m (nowv u)) : fX2_lamps u = some (lamp m) := by
  unfold fX2_lamps lamp
  rw [it_fo (F := fX2_lamps_L4 u) (fun g s => s ||| (if lit m (nI g) ≤ 0 then 0 else (1 : Int32) <<< (nI g &&& 31))) 0 10 (fun x => (x, nI 10)) (fun _ _ => True) (by omega) trivial (fun i x hi _ => ⟨fun rec => ?_, trivial⟩) (fun x _ rec => ?_)]
  · rfl
  · unfold fX2_lamps_L4
    simp only [if_neg (n10 hi), lightM_eq hw h hi, Option.bind_some, nI_add1]
    by_cases h1 : lit m (nI i) ≤ 0
    · simp [h1]
    · simp [h1]
  · unfold fX2_lamps_L4
    simp only [if_pos p10]
/-! the reference lays its book over 'now' -/
def asn (M : am_M) (i : Nat) : am_M := va_up M 1 (va_up (M 1) 1 (fun x => if x < i then M 1 0 x else M 1 1 x))
theorem asn_step (M : am_M) (i : Nat) : am_up (asn M i) 1 1 i (M 1 0 i) = asn M (i + 1) := by
  funext a b c
  by_cases h1 : a = 1
  · by_cases h2 : b = 1
    · by_cases h3 : c = i
      · have : c < i + 1 := by omega
        simp [am_up, va_up, asn, h1, h2, h3]
      · by_cases h4 : c < i
        · have : c < i + 1 := by omega
          simp [am_up, va_up, asn, h1, h2, h3, h4, this]
        · have : ¬ c < i + 1 := by omega
          simp [am_up, va_up, asn, h1, h2, h3, h4, this]
    · simp [am_up, va_up, asn, h1, h2]
  · simp [am_up, va_up, asn, h1]
def asnM (M : am_M) : am_M := am_put (am_put (asn M 36) 1 13 (-6)) 1 14 (-6)
theorem asNow_eq (M : am_M) : fX2_asNow M = some (asnM M) := by
  unfold fX2_asNow asnM
  have e : ∀ n, n ≤ 36 → fo (fun i (N : am_M) => am_up N 1 1 i (M 1 0 i)) M n = asn M n := by
    intro n
    induction n with
    | zero =>
      intro _
      show M = asn M 0
      funext a b c
      by_cases h1 : a = 1
      · by_cases h2 : b = 1 <;> simp [va_up, asn, h1, h2]
      · simp [va_up, asn, h1]
    | succ n ih =>
      intro h
      show am_up _ 1 1 n (M 1 0 n) = _
      rw [ih (by omega), asn_step]
  rw [it_of (F := fX2_asNow_L2) (fun i (N : am_M) => am_up N 1 1 i (M 1 0 i)) M 36 (fun x => (nI 36, x)) (fun _ x => x 1 0 = M 1 0) (by omega) rfl (fun i x hi hx => ⟨fun rec => ?_, ?_⟩) (fun x _ rec => ?_), Option.bind_some, e 36 (Nat.le_refl _)]
  · unfold fX2_asNow_L2
    simp only [if_neg (n36 hi), rd36 hi, wr36 hi, Option.bind_some, nI_add1, hx]
  · rw [am_up_ne (by decide)]; exact hx
  · unfold fX2_asNow_L2
    simp only [if_pos p36]
theorem asn_rel {m : Nat → Nat → Int32} {M : am_M} (h : rel m (M 1)) : rel m (nowv (asnM M 1)) := by
  obtain ⟨r1, r2, r3, r4, r5, r6, r7, r8⟩ := h
  have z : ∀ i, i < 36 → nowv (asnM M 1) 0 i = M 1 0 i := by
    intro i hi
    simp [nowv, asnM, asn, am_put, am_up, va_up, hi]
  have y : ∀ k, k ≤ 10 → k ≠ 0 → k ≠ 1 → nowv (asnM M 1) k = M 1 k := by
    intro k h1 h2 h3
    have h4 : ¬ k = 13 := by omega
    have h5 : ¬ k = 14 := by omega
    simp [nowv, asnM, asn, am_put, am_up, va_up, h2, h3, h4, h5]
  refine ⟨fun k hk => ?_, fun g hg => ?_, ?_, ?_, ?_, ?_, ?_, fun e he => ?_⟩
  · rw [z _ (by omega), z _ (by omega), z _ (by omega), y 3 (by omega) (by omega) (by omega), y 4 (by omega) (by omega) (by omega), y 5 (by omega) (by omega) (by omega)]
    exact r1 k hk
  · rw [z _ (by omega), y 6 (by omega) (by omega) (by omega), y 7 (by omega) (by omega) (by omega)]
    exact r2 g hg
  · rw [z _ (by omega)]; exact r3
  · rw [z _ (by omega)]; exact r4
  · rw [y 2 (by omega) (by omega) (by omega)]; exact r5
  · rw [y 8 (by omega) (by omega) (by omega)]; exact r6
  · rw [y 9 (by omega) (by omega) (by omega)]; exact r7
  · rw [y 10 (by omega) (by omega) (by omega)]; exact r8 e he
theorem asn_eqc (M : am_M) : eqc M (asnM M) := by
  refine ⟨?_, ?_, ?_, ?_, ?_, fun k h1 h2 => ?_, ?_, ?_⟩
  · simp [asnM, asn, am_put, am_up, va_up]
  · simp [asnM, asn, am_put, am_up, va_up]
  · simp [asnM, asn, am_put, am_up, va_up]
  · simp [asnM, asn, am_put, am_up, va_up]
  · simp [asnM, asn, am_put, am_up, va_up]
  · have h4 : ¬ k = 13 := by omega
    have h5 : ¬ k = 14 := by omega
    simp [asnM, asn, am_put, am_up, va_up, h2, h4, h5]
  · simp [asnM, asn, am_put, am_up, va_up]
  · simp [asnM, asn, am_put, am_up, va_up]
theorem op_light {L : Nat → Bool} {M : am_M} (h : Inv L M) (a : Int32) : ∃ r M2, fX0_light M a = some r ∧ fX2_light M a = some (r, M2) ∧ Inv L M2 := by
  unfold fX0_light fX2_light
  rw [isGal_in, isGal2_in]
  by_cases g1 : fX2_in a 0 9 = 0
  · exact ⟨-1, M, by rw [if_pos g1], by rw [if_pos g1], h⟩
  · obtain ⟨g, hg, rfl⟩ := in_9 g1
    refine ⟨lit (M 2) (nI g), asnM M, ?_, ?_, Inv_eqc h (asn_eqc M)⟩
    · rw [if_neg g1, light_eq]; rfl
    · rw [if_neg g1, asNow_eq, Option.bind_some, lightM_eq h.1 (asn_rel h.2.1) hg]; rfl
