/-! OPERATION: fewest -/
set_option maxRecDepth 100000
/-- the galleries that a set lights, with the echoes E -/
def lbN (E : Nat → Nat) (s : Nat) : Nat := fo (fun g x => if s.testBit g = true then ins x (E g) else x) s 10
theorem lbN_ok {E : Nat → Nat} (hE : ∀ g, g < 10 → E g < 10) {s : Nat} (hs : s < 1024) : lbN E s < 1024 ∧ ∀ i, s.testBit i = true → (lbN E s).testBit i = true := by
  have := fo_inv (f := fun g x => if s.testBit g = true then ins x (E g) else x) (a := s) (fun _ x => x < 1024 ∧ ∀ i, s.testBit i = true → x.testBit i = true) 10 ⟨hs, fun _ h => h⟩ (fun g x hg hx => by
    by_cases h : s.testBit g = true
    · rw [if_pos h]
      exact ⟨ins_lt (n := 10) hx.1 (hE g hg), fun i hi => by rw [ins_bit, hx.2 i hi]; rfl⟩
    · rw [if_neg h]; exact hx) 10 (Nat.le_refl _)
  exact this
theorem lb_loop {E : Nat → Nat} (hE : ∀ g, g < 10 → E g < 10) {F : (Int32 × Int32 → Option (Int32 × Int32)) → Int32 × Int32 → Option (Int32 × Int32)} {s : Nat} (hs : s < 1024) (hF : ∀ i x rec, i < 10 → F rec (x, nI i) = rec (x ||| (if s.testBit i = true then (1 : Int32) <<< (nI (E i) &&& 31) else 0), nI (i + 1))) (hT : ∀ x rec, F rec (x, nI 10) = some (x, nI 10)) : am_it F am_fuel (nI s, (0 : Int32)) = some (nI (lbN E s), nI 10) := by
  have key : ∀ n, n ≤ 10 → fo (fun g (x : Int32) => x ||| (if s.testBit g = true then (1 : Int32) <<< (nI (E g) &&& 31) else 0)) (nI s) n = nI (fo (fun g x => if s.testBit g = true then ins x (E g) else x) s n) ∧ fo (fun g x => if s.testBit g = true then ins x (E g) else x) s n < 1024 := by
    intro n
    induction n with
    | zero => intro _; exact ⟨rfl, hs⟩
    | succ n ih =>
      intro h
      obtain ⟨e, hl⟩ := ih (by omega)
      have hp : 2 ^ E n < 1024 := Nat.pow_lt_pow_right (show 1 < 2 by omega) (hE n (by omega))
      show _ ||| _ = nI (if s.testBit n = true then _ else _) ∧ (if s.testBit n = true then _ else _) < 1024
      rw [e]
      by_cases z : s.testBit n = true
      · rw [if_pos z, if_pos z, one_shl (by have := hE n (by omega); omega), nI_or (by omega) (by omega)]
        exact ⟨rfl, ins_lt (n := 10) hl (hE n (by omega))⟩
      · rw [if_neg z, if_neg z]
        refine ⟨?_, hl⟩
        have q := nI_or (a := fo (fun g x => if s.testBit g = true then ins x (E g) else x) s n) (b := 0) (by omega) (by omega)
        rw [Nat.or_zero] at q
        exact q
  unfold lbN
  rw [← (key 10 (Nat.le_refl _)).1]
  exact it_fo (F := F) (fun g (x : Int32) => x ||| (if s.testBit g = true then (1 : Int32) <<< (nI (E g) &&& 31) else 0)) (nI s) 10 (fun x => (x, nI 10)) (fun _ _ => True) (by omega) trivial (fun i x hi _ => ⟨fun rec => hF i x rec hi, trivial⟩) (fun x _ rec => hT x rec)
theorem litBy_eq {M : am_M} {E : Nat → Nat} (hE : ∀ g, g < 10 → E g < 10) (hM : ∀ g, g < 10 → M 2 1 g = nI (E g)) {s : Nat} (hs : s < 1024) : fX0_litBy M (nI s) = some (nI (lbN E s)) := by
  unfold fX0_litBy
  rw [lb_loop hE hs (fun i x rec hi => ?_) (fun x rec => ?_), Option.bind_some]
  · unfold fX0_litBy_L4
    simp only [if_neg (n10 hi), holds_hb, hb_bit (show s < 2 ^ 31 by omega) (show i < 31 by omega), rd10 hi, Option.bind_some, nI_add1, hM i hi]
    cases s.testBit i <;> simp
  · unfold fX0_litBy_L4
    simp only [if_pos p10]
theorem litM_eq {u : Nat → Nat → Int32} {E : Nat → Nat} (hE : ∀ g, g < 10 → E g < 10) (hM : ∀ g, g < 10 → u 7 g = nI (E g)) {s : Nat} (hs : s < 1024) (x : Int32) : am_it (fX2_fewest_L45 u (x, nI s)) am_fuel (nI s, (0 : Int32)) = some (nI (lbN E s), nI 10) := by
  refine lb_loop hE hs (fun i x rec hi => ?_) (fun x rec => ?_)
  · unfold fX2_fewest_L45
    simp only [if_neg (n10 hi), has_hb, hb_bit (show s < 2 ^ 31 by omega) (show i < 31 by omega), rd10 hi, Option.bind_some, nI_add1, hM i hi]
    cases s.testBit i <;> simp
  · unfold fX2_fewest_L45
    simp only [if_pos p10]
/-! least by count, then by number -/
def lexl (P : Nat → Bool) (b : Nat) (z : Nat) : Prop := P z = true → pop b < pop z ∨ (pop b = pop z ∧ b ≤ z)
theorem lex_one {P : Nat → Bool} {a b : Nat} (ha : a < 1024) (hb : b < 1024) (pa : P a = true) (pb : P b = true) (la : ∀ z, z < 1024 → lexl P a z) (lb : ∀ z, z < 1024 → lexl P b z) : a = b := by
  have h1 := la b hb pb
  have h2 := lb a ha pa
  omega
def dnf (P : Nat → Bool) (a : Nat) (i : Nat) : Nat := fo (fun j b => if pop (1023 - j) ≤ pop b ∧ P (1023 - j) = true then 1023 - j else b) a i
theorem dn_ok {P : Nat → Bool} {a : Nat} (ha : a < 1024) (pa : P a = true) : ∀ i, i ≤ 1024 → dnf P a i < 1024 ∧ P (dnf P a i) = true ∧ ∀ z, 1024 - i ≤ z → z < 1024 → lexl P (dnf P a i) z := by
  intro i
  induction i with
  | zero => intro _; exact ⟨ha, pa, fun z h1 h2 => by omega⟩
  | succ i ih =>
    intro hi
    obtain ⟨h1, h2, h3⟩ := ih (by omega)
    show (if pop (1023 - i) ≤ pop (dnf P a i) ∧ P (1023 - i) = true then 1023 - i else dnf P a i) < 1024 ∧ P (if pop (1023 - i) ≤ pop (dnf P a i) ∧ P (1023 - i) = true then 1023 - i else dnf P a i) = true ∧ ∀ z, 1024 - (i + 1) ≤ z → z < 1024 → lexl P (if pop (1023 - i) ≤ pop (dnf P a i) ∧ P (1023 - i) = true then 1023 - i else dnf P a i) z
    by_cases c : pop (1023 - i) ≤ pop (dnf P a i) ∧ P (1023 - i) = true
    · simp only [if_pos c]
      refine ⟨by omega, c.2, fun z z1 z2 pz => ?_⟩
      by_cases e : z = 1023 - i
      · subst e; right; exact ⟨rfl, Nat.le_refl _⟩
      · have := h3 z (by omega) z2 pz
        omega
    · simp only [if_neg c]
      refine ⟨h1, h2, fun z z1 z2 pz => ?_⟩
      by_cases e : z = 1023 - i
      · subst e
        left
        have : ¬ pop (1023 - i) ≤ pop (dnf P a i) := fun q => c ⟨q, pz⟩
        omega
      · exact h3 z (by omega) z2 pz
def upf (P : Nat → Bool) (i : Nat) : Nat := fo (fun j b => if P j = true ∧ ¬ pop b ≤ pop j then j else b) 1023 i
theorem pop_full {z : Nat} (hz : z < 1024) (h : 10 ≤ pop z) : z = 1023 := by
  have : ∀ z : Fin 1024, 10 ≤ pop z.1 → z.1 = 1023 := by decide +kernel
  exact this ⟨z, hz⟩ h
theorem up_ok {P : Nat → Bool} (pa : P 1023 = true) : ∀ i, i ≤ 1024 → upf P i < 1024 ∧ P (upf P i) = true ∧ (upf P i = 1023 ∨ upf P i < i) ∧ ∀ z, z < i → lexl P (upf P i) z := by
  intro i
  induction i with
  | zero => intro _; exact ⟨by show 1023 < 1024; omega, pa, Or.inl rfl, fun z h1 => by omega⟩
  | succ i ih =>
    intro hi
    obtain ⟨h1, h2, h4, h3⟩ := ih (by omega)
    show (if P i = true ∧ ¬ pop (upf P i) ≤ pop i then i else upf P i) < 1024 ∧ P (if P i = true ∧ ¬ pop (upf P i) ≤ pop i then i else upf P i) = true ∧ ((if P i = true ∧ ¬ pop (upf P i) ≤ pop i then i else upf P i) = 1023 ∨ (if P i = true ∧ ¬ pop (upf P i) ≤ pop i then i else upf P i) < i + 1) ∧ ∀ z, z < i + 1 → lexl P (if P i = true ∧ ¬ pop (upf P i) ≤ pop i then i else upf P i) z
    by_cases c : P i = true ∧ ¬ pop (upf P i) ≤ pop i
    · simp only [if_pos c]
      refine ⟨by omega, c.1, Or.inr (by omega), fun z z1 pz => ?_⟩
      by_cases e : z = i
      · subst e; right; exact ⟨rfl, Nat.le_refl _⟩
      · have := h3 z (by omega) pz
        omega
    · simp only [if_neg c]
      refine ⟨h1, h2, by omega, fun z z1 pz => ?_⟩
      by_cases e : z = i
      · subst e
        have q : pop (upf P z) ≤ pop z := by
          by_cases q : pop (upf P z) ≤ pop z
          · exact q
          · exact absurd ⟨pz, q⟩ c
        rcases h4 with h4 | h4
        · have hp : pop 1023 = 10 := by decide
          rw [h4, hp] at q
          have := pop_full (by omega) q
          rw [h4, this]
          right; exact ⟨rfl, Nat.le_refl _⟩
        · omega
      · exact h3 z (by omega) pz
def cvr (E : Nat → Nat) (a : Nat) (z : Nat) : Bool := decide (dif a (lbN E z) = 0)
theorem cvr_sup {E : Nat → Nat} (hE : ∀ g, g < 10 → E g < 10) {a z : Nat} (ha : a < 1024) (hz : z < 1024) (h : ∀ i, a.testBit i = true → z.testBit i = true) : cvr E a z = true := by
  obtain ⟨h1, h2⟩ := lbN_ok hE hz
  unfold cvr
  rw [decide_eq_true_eq]
  apply Nat.eq_of_testBit_eq
  intro i
  rw [dif_bit (by omega) (by omega), Nat.zero_testBit]
  cases q : a.testBit i with
  | false => rfl
  | true => rw [h2 i (h i q)]; rfl
theorem cvr_eq {E : Nat → Nat} (hE : ∀ g, g < 10 → E g < 10) {a z : Nat} (ha : a < 1024) (hz : z < 1024) : (nI a &&& (nI (lbN E z) ^^^ (-1 : Int32)) = 0) = (cvr E a z = true) := by
  obtain ⟨h1, h2⟩ := lbN_ok hE hz
  have hl := dif_le (a := a) (b := lbN E z)
  rw [nI_dif (by omega) (by omega)]
  unfold cvr
  rw [decide_eq_true_eq]
  exact lit_eq (n := dif a (lbN E z)) (i := 0) (by omega) (by omega)
def cdn (i : Nat) : Int32 := if i ≤ 1023 then nI (1023 - i) else -1
theorem cdn_st {i : Nat} (h : i < 1024) : cdn i + (-1) = cdn (i + 1) := by
  unfold cdn
  rw [if_pos (by omega)]
  by_cases e : i = 1023
  · subst e; decide
  · rw [if_pos (by omega)]
    have : nI (1023 - i) = nI (1023 - (i + 1)) + 1 := by rw [nI_add1]; congr 1; omega
    rw [this]
    grind
theorem few_x0 {M : am_M} {E : Nat → Nat} (hE : ∀ g, g < 10 → E g < 10) (hM : ∀ g, g < 10 → M 2 1 g = nI (E g)) {a : Nat} (ha : a < 1024) : am_it (fX0_fewest_L29 M (nI a)) am_fuel (nI a, (1023 : Int32)) = some (nI (dnf (cvr E a) a 1024), -1) := by
  have hP := cvr_sup hE ha ha (fun _ h => h)
  have z : (nI a, (1023 : Int32)) = (nI (dnf (cvr E a) a 0), cdn 0) := rfl
  rw [z]
  refine it_run0 (F := fX0_fewest_L29 M (nI a)) (fun i => (nI (dnf (cvr E a) a i), cdn i)) 1024 (by omega) (fun i hi rec => ?_) (fun rec => ?_)
  · obtain ⟨h1, -, -⟩ := dn_ok ha hP i (by omega)
    unfold fX0_fewest_L29
    simp only [cdn_st hi]
    have ec : cdn i = nI (1023 - i) := if_pos (by omega)
    have hp1 := pop_le (1023 - i)
    have hp2 := pop_le (dnf (cvr E a) a i)
    rw [ec, if_neg (by rw [show (0 : Int32) = nI 0 from rfl, lit_lt (by omega) (by omega)]; omega), bitCount_n (by omega), Option.bind_some, bitCount_n h1, Option.bind_some, litBy_eq hE hM (by omega)]
    have e2 : dnf (cvr E a) a (i + 1) = if pop (1023 - i) ≤ pop (dnf (cvr E a) a i) ∧ cvr E a (1023 - i) = true then 1023 - i else dnf (cvr E a) a i := rfl
    rw [e2]
    simp only [lit_lt (n := pop (dnf (cvr E a) a i)) (i := pop (1023 - i)) (by omega) (by omega), cvr_eq hE ha (show 1023 - i < 1024 by omega), Option.bind_some]
    by_cases c1 : pop (dnf (cvr E a) a i) < pop (1023 - i)
    · rw [if_pos c1, Option.bind_some, if_pos rfl, Option.bind_some, if_neg (by omega)]
    · rw [if_neg c1, Option.bind_some, if_neg (by decide)]
      by_cases c2 : cvr E a (1023 - i) = true
      · rw [if_pos c2, Option.bind_some, if_pos ⟨by omega, c2⟩]
      · rw [if_neg c2, Option.bind_some, if_neg (fun q => c2 q.2)]
  · unfold fX0_fewest_L29
    have : cdn 1024 = -1 := rfl
    simp only [this]
    rw [if_pos (by decide)]
theorem few_full {E : Nat → Nat} (hE : ∀ g, g < 10 → E g < 10) {a : Nat} (ha : a < 1024) : cvr E a 1023 = true := cvr_sup hE ha (by omega) (fun i h => by
    have hi : i < 10 := by
      by_cases q : i < 10
      · exact q
      · have : a.testBit i = false := Nat.testBit_lt_two_pow (Nat.lt_of_lt_of_le ha (show 2 ^ 10 ≤ 2 ^ i from Nat.pow_le_pow_right (by omega) (by omega)))
        rw [this] at h; exact absurd h (by decide)
    have : ∀ i : Fin 10, (1023 : Nat).testBit i.1 = true := by decide
    exact this ⟨i, hi⟩)
theorem few_x2 {u : Nat → Nat → Int32} {E : Nat → Nat} (hE : ∀ g, g < 10 → E g < 10) (hM : ∀ g, g < 10 → u 7 g = nI (E g)) {a : Nat} (ha : a < 1024) : am_it (fX2_fewest_L30 u (nI a)) am_fuel ((1023 : Int32), (0 : Int32)) = some (nI (upf (cvr E a) 1024), nI 1024) := by
  have hP := few_full hE ha
  have z : ((1023 : Int32), (0 : Int32)) = (nI (upf (cvr E a) 0), nI 0) := rfl
  rw [z]
  refine it_run0 (F := fX2_fewest_L30 u (nI a)) (fun i => (nI (upf (cvr E a) i), nI i)) 1024 (by omega) (fun i hi rec => ?_) (fun rec => ?_)
  · obtain ⟨h1, -, -, -⟩ := up_ok hP i (by omega)
    have hp1 := pop_le i
    have hp2 := pop_le (upf (cvr E a) i)
    unfold fX2_fewest_L30
    have nl : ¬ (1024 : Int32) ≤ nI i := nI_ge (a := i) (b := 1024) hi (by omega)
    simp only [if_neg nl]
    rw [litM_eq hE hM hi, Option.bind_some, bits_n hi, bits_n h1, Option.bind_some, Option.bind_some, nI_add1]
    dsimp only
    have e2 : upf (cvr E a) (i + 1) = if cvr E a i = true ∧ ¬ pop (upf (cvr E a) i) ≤ pop i then i else upf (cvr E a) i := rfl
    rw [e2]
    simp only [lit_le (n := pop (upf (cvr E a) i)) (i := pop i) (by omega) (by omega), cvr_eq hE ha hi]
    by_cases c1 : cvr E a i = true
    · rw [if_pos c1]
      by_cases c2 : pop (upf (cvr E a) i) ≤ pop i
      · rw [if_pos c2, Option.bind_some, if_neg (fun q => q.2 c2)]
      · rw [if_neg c2, Option.bind_some, if_pos ⟨c1, c2⟩]
    · rw [if_neg c1, Option.bind_some, if_neg (fun q => c1 q.1)]
  · unfold fX2_fewest_L30
    rw [if_pos (show (1024 : Int32) ≤ nI 1024 by decide)]
theorem op_fewest {L : Nat → Bool} {M : am_M} (h : Inv L M) (a b : Int32) : ∃ r, fX0_fewest M a b = some r ∧ fX2_fewest (M 1) a b = some r := by
  unfold fX0_fewest fX2_fewest
  rw [in_0_1023, isEnd_in]
  by_cases g1 : fX2_in a 0 1023 = 0
  · exact ⟨-2, by rw [if_pos g1], by rw [if_pos g1]⟩
  by_cases g2 : fX2_in b 0 1 = 0
  · exact ⟨-2, by rw [if_neg g1, if_pos g2], by rw [if_neg g1, if_pos g2]⟩
  rw [if_neg g1, if_neg g2, if_neg g1, if_neg g2]
  obtain ⟨s, hs, rfl⟩ := in_n (n := 1023) (by omega) g1
  obtain ⟨x, hx, rfl⟩ := in_n (n := 1) (by omega) g2
  obtain ⟨hw, hr, -, -⟩ := h
  have hEe : ∀ g, g < 10 → (M 2 1 g).toNatClampNeg < 10 ∧ M 2 1 g = nI (M 2 1 g).toNatClampNeg := by
    intro g hg
    obtain ⟨e, he, q⟩ := hw.2.2.1 g hg
    rw [q, nI_clamp (by omega)]
    exact ⟨he, rfl⟩
  have hE : ∀ g, g < 10 → (fun g => (M 2 1 g).toNatClampNeg) g < 10 := fun g hg => (hEe g hg).1
  have e0 := few_x0 (M := M) hE (fun g hg => (hEe g hg).2) (show s < 1024 by omega)
  have e2 := few_x2 (u := M 1) hE (fun g hg => ((hr.2.1 g hg).2.2).trans (hEe g hg).2) (show s < 1024 by omega)
  have hP : cvr (fun g => (M 2 1 g).toNatClampNeg) s s = true := cvr_sup hE (by omega) (by omega) (fun _ h => h)
  have hQ := few_full hE (show s < 1024 by omega)
  obtain ⟨a1, a2, a3⟩ := dn_ok (show s < 1024 by omega) hP 1024 (Nat.le_refl _)
  obtain ⟨b1, b2, -, b3⟩ := up_ok hQ 1024 (Nat.le_refl _)
  have e := lex_one a1 b1 a2 b2 (fun z hz => a3 z (by omega) hz) (fun z hz => b3 z hz)
  rw [e0, e2, Option.bind_some, Option.bind_some, e]
  rcases (show x = 0 ∨ x = 1 by omega) with rfl | rfl
  · refine ⟨nI (pop (upf (cvr (fun g => (M 2 1 g).toNatClampNeg) s) 1024)), ?_, ?_⟩
    · rw [if_pos (by decide), bitCount_n b1, Option.bind_some]
    · rw [if_neg (by decide), bits_n b1, Option.bind_some]
  · refine ⟨nI (upf (cvr (fun g => (M 2 1 g).toNatClampNeg) s) 1024), ?_, ?_⟩
    · rw [if_neg (by decide)]
    · rw [if_pos (by decide)]
