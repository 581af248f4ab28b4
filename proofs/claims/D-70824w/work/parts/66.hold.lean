/-! OPERATION: hold, the component -/
set_option maxRecDepth 100000
def fr (o k : Nat) (M M' : am_M) : Prop := ∀ a b, ¬ (a = o ∧ b = k) → M' a b = M a b
theorem fr_rf (o k : Nat) (M : am_M) : fr o k M M := fun _ _ _ => rfl
theorem fr_tr {o k : Nat} {M M1 M2 : am_M} (h1 : fr o k M M1) (h2 : fr o k M1 M2) : fr o k M M2 := fun a b h => (h2 a b h).trans (h1 a b h)
theorem fr_up (M : am_M) (o k i : Nat) (v : Int32) : fr o k M (am_up M o k i v) := by
  intro a b h
  by_cases e : a = o
  · subst e
    have : ¬ b = k := fun z => h ⟨rfl, z⟩
    simp [am_up, va_up, this]
  · simp [am_up, va_up, e]
/-- a digit -/
def dg (r k : Nat) : Nat := if k = 0 then r / 100 else if k = 1 then r / 10 % 10 else r % 10
theorem dg_lt {r : Nat} (hr : r < 1000) (k : Nat) : dg r k < 10 := by
  unfold dg
  by_cases h : k = 0
  · rw [if_pos h]; omega
  · rw [if_neg h]
    by_cases h1 : k = 1
    · rw [if_pos h1]; omega
    · rw [if_neg h1]; omega
theorem digit0 {r k : Nat} (hr : r < 1000) (hk : k < 3) : fX0_digit (nI r) (nI k) = nI (dg r k) := by
  have d100 : nI r / 100 = nI (r / 100) := pk_div (a := r) (d := 100) (by omega) (by omega) (by omega)
  have d10 : nI r / 10 = nI (r / 10) := pk_div (a := r) (d := 10) (by omega) (by omega) (by omega)
  have m1 : jv_rem (nI (r / 10)) 10 = nI (r / 10 % 10) := pk_rem (a := r / 10) (d := 10) (by omega) (by omega) (by omega)
  have m2 : jv_rem (nI r) 10 = nI (r % 10) := pk_rem (a := r) (d := 10) (by omega) (by omega) (by omega)
  unfold fX0_digit dg
  rcases (show k = 0 ∨ k = 1 ∨ k = 2 by omega) with rfl | rfl | rfl
  · rw [if_pos (show nI 0 = 0 from rfl), if_pos rfl, d100]
  · rw [if_neg (show ¬ nI 1 = 0 by decide), if_pos (show nI 1 = 1 from rfl), if_neg (show ¬ (1 : Nat) = 0 by decide), if_pos rfl, d10, m1]
  · rw [if_neg (show ¬ nI 2 = 0 by decide), if_neg (show ¬ nI 2 = 1 by decide), if_neg (show ¬ (2 : Nat) = 0 by decide), if_neg (show ¬ (2 : Nat) = 1 by decide), m2]
theorem digit2 {r k : Nat} (hr : r < 1000) (hk : k < 3) : fX2_digit (nI r) (nI k) = nI (dg r k) := digit0 hr hk
def eT (s R : Nat → Nat) (r k i : Nat) : Nat := if i = k then R k else dg r i - s k
/-- the rests after act k -/
def tT (s R : Nat → Nat) (r k : Nat) : Nat := fo (fun i x => 10 * x + eT s R r k i) 0 3
theorem tT_lt {s R : Nat → Nat} (hR : ∀ k, R k < 10) {r : Nat} (hr : r < 1000) (k : Nat) : tT s R r k < 1000 := by
  have h : ∀ i, eT s R r k i < 10 := fun i => by
    unfold eT
    by_cases e : i = k
    · rw [if_pos e]; exact hR k
    · rw [if_neg e]; have := dg_lt hr i; omega
  have h0 := h 0
  have h1 := h 1
  have h2 := h 2
  show 10 * (10 * (10 * 0 + eT s R r k 0) + eT s R r k 1) + eT s R r k 2 < 1000
  omega
theorem mx_sub {a b : Nat} (ha : a < 10) (hb : b < 10) : jv_max (0 : Int32) (nI a - nI b) = nI (a - b) := by
  have : ∀ a b : Fin 10, jv_max (0 : Int32) (nI a.val - nI b.val) = nI (a.val - b.val) := by decide +kernel
  exact this ⟨a, ha⟩ ⟨b, hb⟩
theorem mn_99 {c : Nat} (h : c < 201) : jv_min (99 : Int32) (nI c) = nI (min 99 c) := by
  have : ∀ c : Fin 201, jv_min (99 : Int32) (nI c.val) = nI (min 99 c.val) := by decide +kernel
  exact this ⟨c, h⟩
theorem ten_add (x e : Nat) : (10 : Int32) * nI x + nI e = nI (10 * x + e) := by
  rw [show (10 : Int32) = nI 10 from rfl, pk_mul, nI_add]
theorem n3 {i : Nat} (h : i < 3) : ¬ (3 : Int32) ≤ nI i := nI_ge (a := i) (b := 3) h (by omega)
theorem p3 : (3 : Int32) ≤ nI 3 := by decide
theorem rd3 {f : Nat → Int32} {i : Nat} (h : i < 3) : am_rd f 3 (nI i) = some (f i) := rd_n h (by omega)
theorem rd1k {f : Nat → Int32} {i : Nat} (h : i < 1000) : am_rd f 1000 (nI i) = some (f i) := rd_n h (by omega)
/-- what a song and a rest lie as in the component -/
def sR (M : am_M) (s R : Nat → Nat) : Prop := ∀ k, k < 3 → M 0 14 k = nI (s k) ∧ M 0 15 k = nI (R k)
theorem sR_fr {M M' : am_M} {s R : Nat → Nat} (h : sR M s R) (f : fr 0 13 M M') : sR M' s R := by
  intro k hk
  rw [f 0 14 (by omega), f 0 15 (by omega)]
  exact h k hk
theorem rests_eq {M : am_M} {s R : Nat → Nat} (hM : sR M s R) (hs : ∀ k, s k < 10) {r k : Nat} (hr : r < 1000) (hk : k < 3) : fX0_restsThen M (nI r) (nI k) = some (nI (tT s R r k)) := by
  unfold fX0_restsThen
  have e : am_it (fX0_restsThen_L5 M (nI r) (nI k)) am_fuel ((0 : Int32), (0 : Int32)) = some (nI (tT s R r k), nI 3) := by
    refine it_run0 (F := fX0_restsThen_L5 M (nI r) (nI k)) (fun i => (nI (fo (fun i x => 10 * x + eT s R r k i) 0 i), nI i)) 3 (by omega) (fun i hi rec => ?_) (fun rec => ?_)
    · unfold fX0_restsThen_L5
      simp only [if_neg (n3 hi), digit0 hr hi, rd3 hk, (hM k hk).1, (hM k hk).2, Option.bind_some, nI_add1, mx_sub (dg_lt hr i) (hs k)]
      by_cases e : i = k
      · rw [if_pos (by rw [e]), Option.bind_some, ten_add]
        show _ = rec (nI (10 * fo _ 0 i + eT s R r k i), _)
        rw [show eT s R r k i = R k from if_pos e]
      · rw [if_neg (by rw [lit_eq (by omega) (by omega)]; exact e), Option.bind_some, ten_add]
        show _ = rec (nI (10 * fo _ 0 i + eT s R r k i), _)
        rw [show eT s R r k i = dg r i - s k from if_neg e]
    · unfold fX0_restsThen_L5
      simp only [if_pos p3]
      rfl
  rw [e, Option.bind_some]
/-- the beats that act k brings in row r, v telling how long each row lasts -/
def bt (s R v : Nat → Nat) (r k : Nat) : Nat := if dg r k = 0 then min 99 (s k + v (tT s R r k)) else 0
theorem bt_mono {s R v v' : Nat → Nat} (h : ∀ r, v r ≤ v' r) (r k : Nat) : bt s R v r k ≤ bt s R v' r k := by
  unfold bt
  have := h (tT s R r k)
  by_cases c : dg r k = 0
  · rw [if_pos c, if_pos c]; omega
  · rw [if_neg c, if_neg c]; omega
theorem bt_99 (s R v : Nat → Nat) (r k : Nat) : bt s R v r k ≤ 99 := by
  unfold bt
  by_cases c : dg r k = 0
  · rw [if_pos c]; omega
  · rw [if_neg c]; omega
def cv (M : am_M) (v : Nat → Nat) : Prop := ∀ r, r < 1000 → M 0 13 r = nI (v r) ∧ v r ≤ 99
theorem beats_eq {M : am_M} {s R v : Nat → Nat} (hM : sR M s R) (hs : ∀ k, s k < 10) (hR : ∀ k, R k < 10) (hv : cv M v) {r k : Nat} (hr : r < 1000) (hk : k < 3) : fX0_beatsBy M (nI r) (nI k) = some (nI (bt s R v r k)) := by
  unfold fX0_beatsBy bt
  have hd := dg_lt hr k
  have ht := tT_lt (s := s) hR hr k
  have h1 := hv _ ht
  have h2 := hs k
  by_cases c : dg r k = 0
  · rw [if_pos c, if_pos (by rw [digit0 hr hk, c]; decide), rd3 hk, Option.bind_some, rests_eq hM hs hr hk, Option.bind_some, rd1k ht, Option.bind_some, (hM k hk).1, h1.1, nI_add, mn_99 (by omega)]
  · rw [if_neg c, if_neg]
    · rfl
    · rw [digit0 hr hk, show (0 : Int32) = nI 0 from rfl, lit_le (by omega) (by omega)]; omega
def up3 (s R v : Nat → Nat) (r : Nat) : Nat := fo (fun k x => max x (bt s R v r k)) (v r) 3
theorem up3_ok {s R v : Nat → Nat} {r : Nat} (h : v r ≤ 99) : v r ≤ up3 s R v r ∧ up3 s R v r ≤ 99 ∧ (∀ k, k < 3 → bt s R v r k ≤ up3 s R v r) ∧ (up3 s R v r = v r ∨ ∃ k, k < 3 ∧ up3 s R v r = bt s R v r k) := by
  have b0 := bt_99 s R v r 0
  have b1 := bt_99 s R v r 1
  have b2 := bt_99 s R v r 2
  have e : up3 s R v r = max (max (max (v r) (bt s R v r 0)) (bt s R v r 1)) (bt s R v r 2) := rfl
  generalize up3 s R v r = x at *
  refine ⟨by omega, by omega, fun k hk => ?_, ?_⟩
  · rcases (show k = 0 ∨ k = 1 ∨ k = 2 by omega) with rfl | rfl | rfl <;> omega
  · rcases (show x = v r ∨ x = bt s R v r 0 ∨ x = bt s R v r 1 ∨ x = bt s R v r 2 by omega) with q | q | q | q
    · exact Or.inl q
    · exact Or.inr ⟨0, by omega, q⟩
    · exact Or.inr ⟨1, by omega, q⟩
    · exact Or.inr ⟨2, by omega, q⟩
theorem mx_n {a b : Nat} (ha : a < 2 ^ 31) (hb : b < 2 ^ 31) : jv_max (nI a) (nI b) = nI (max a b) := by
  rw [jmax]
  by_cases h : b ≤ a
  · rw [if_pos ((nI_leI hb ha).mpr h), Nat.max_eq_left h]
  · rw [if_neg (fun z => h ((nI_leI hb ha).mp z)), Nat.max_eq_right (by omega)]
theorem on_inner {M : am_M} {s R v : Nat → Nat} (hM : sR M s R) (hs : ∀ k, s k < 10) (hR : ∀ k, R k < 10) (hv : cv M v) {r : Nat} (hr : r < 1000) (fl : Int32) : am_it (fX0_holdOn_L23 (fl, nI r, M)) am_fuel (nI (v r), (0 : Int32)) = some (nI (up3 s R v r), nI 3) := by
  have hb : ∀ i, fo (fun k x => max x (bt s R v r k)) (v r) i ≤ 99 := fun i => by
    induction i with
    | zero => exact (hv r hr).2
    | succ i ih =>
      show max (fo (fun k x => max x (bt s R v r k)) (v r) i) (bt s R v r i) ≤ 99
      have := bt_99 s R v r i
      omega
  refine it_run0 (F := fX0_holdOn_L23 (fl, nI r, M)) (fun i => (nI (fo (fun k x => max x (bt s R v r k)) (v r) i), nI i)) 3 (by omega) (fun i hi rec => ?_) (fun rec => ?_)
  · unfold fX0_holdOn_L23
    have h1 := hb i
    have h2 := bt_99 s R v r i
    simp only [if_neg (n3 hi)]
    rw [beats_eq hM hs hR hv hr hi, Option.bind_some, nI_add1, mx_n (by omega) (by omega)]
    rfl
  · unfold fX0_holdOn_L23
    simp only [if_pos p3]
    rfl
theorem on_step {M : am_M} {s R v : Nat → Nat} (hM : sR M s R) (hs : ∀ k, s k < 10) (hR : ∀ k, R k < 10) (hv : cv M v) {i : Nat} (hi : i < 1000) (fl : Int32) (rec : (Int32 × Int32 × am_M) → Option (Int32 × Int32 × am_M)) : fX0_holdOn_L4 rec (fl, nI i, M) = rec (fl ||| (if up3 s R v i ≤ v i then 0 else 1), nI (i + 1), am_up M 0 13 i (nI (up3 s R v i))) := by
  obtain ⟨h1, h2, _, _⟩ := up3_ok (s := s) (R := R) (hv i hi).2
  unfold fX0_holdOn_L4
  have nl : ¬ (1000 : Int32) ≤ nI i := nI_ge (a := i) (b := 1000) hi (by omega)
  simp only [if_neg nl]
  rw [rd1k hi, Option.bind_some, (hv i hi).1, on_inner hM hs hR hv hi fl, Option.bind_some, Option.bind_some]
  have hc := (hv i hi).2
  by_cases c : up3 s R v i ≤ v i
  · rw [if_pos c, if_pos ((nI_leI (by omega) (by omega)).mpr c), Option.bind_some, wr_n hi (by omega), Option.bind_some, nI_add1]
  · rw [if_neg c, if_neg (fun z => c ((nI_leI (by omega) (by omega)).mp z)), Option.bind_some, wr_n hi (by omega), Option.bind_some, nI_add1]
def spp (s R v : Nat → Nat) : Prop := ∀ r, r < 1000 → v r = 0 ∨ ∃ k, k < 3 ∧ v r ≤ bt s R v r k
theorem spp_up {s R v : Nat → Nat} (h : spp s R v) {i : Nat} (hv : v i ≤ 99) : spp s R (va_up v i (up3 s R v i)) ∧ ∀ r, v r ≤ va_up v i (up3 s R v i) r := by
  obtain ⟨h1, h2, _, h4⟩ := up3_ok (s := s) (R := R) hv
  have mono : ∀ r, v r ≤ va_up v i (up3 s R v i) r := fun r => by
    by_cases e : r = i
    · subst e; simpa [va_up] using h1
    · simp [va_up, e]
  refine ⟨fun r hr => ?_, mono⟩
  have old : ∀ x, x ≤ v r → x = 0 ∨ ∃ k, k < 3 ∧ x ≤ bt s R (va_up v i (up3 s R v i)) r k := fun x hx => by
    rcases h r hr with z | ⟨k, hk, z⟩
    · left; omega
    · exact Or.inr ⟨k, hk, Nat.le_trans (Nat.le_trans hx z) (bt_mono mono r k)⟩
  by_cases e : r = i
  · subst e
    have ev : va_up v r (up3 s R v r) r = up3 s R v r := by simp [va_up]
    rw [ev]
    rcases h4 with z | ⟨k, hk, z⟩
    · exact old _ (by omega)
    · refine Or.inr ⟨k, hk, ?_⟩
      exact Nat.le_trans (Nat.le_of_eq z) (bt_mono mono r k)
  · have ev : va_up v i (up3 s R v i) r = v r := by simp [va_up, e]
    rw [ev]
    exact old _ (Nat.le_refl _)
theorem cv_up {M : am_M} {v : Nat → Nat} (h : cv M v) {i w : Nat} (hw : w ≤ 99) : cv (am_up M 0 13 i (nI w)) (va_up v i w) := by
  intro r hr
  by_cases e : r = i
  · subst e
    simp [am_up, va_up, hw]
  · simpa [am_up, va_up, e] using h r hr
theorem on_loop {s R : Nat → Nat} (hs : ∀ k, s k < 10) (hR : ∀ k, R k < 10) : ∀ (n i : Nat) (v : Nat → Nat) (M : am_M) (fl : Int32), i + n = 1000 → sR M s R → cv M v → spp s R v → (fl = 0 ∨ fl = 1) → ∀ f, n < f → ∃ fl' M' v', am_it fX0_holdOn_L4 f (fl, nI i, M) = some (fl', nI 1000, M') ∧ cv M' v' ∧ fr 0 13 M M' ∧ (fl' = 0 ∨ fl' = 1) ∧ (∀ r, v r ≤ v' r) ∧ spp s R v' ∧ (fl' = 0 → fl = 0 ∧ v' = v ∧ ∀ r, i ≤ r → r < 1000 → ∀ k, k < 3 → bt s R v r k ≤ v r) ∧ (fl' = 1 → fl = 1 ∨ ∃ r, r < 1000 ∧ v r < v' r) := by
  intro n
  induction n with
  | zero =>
    intro i v M fl hi hM hv hp hf f hlt
    obtain ⟨f, rfl⟩ : ∃ g, f = g + 1 := ⟨f - 1, by omega⟩
    have : i = 1000 := by omega
    subst this
    refine ⟨fl, M, v, ?_, hv, fr_rf _ _ _, hf, fun _ => Nat.le_refl _, hp, fun z => ⟨z, rfl, fun r h1 h2 => by omega⟩, fun z => Or.inl z⟩
    show fX0_holdOn_L4 (am_it _ f) _ = _
    unfold fX0_holdOn_L4
    simp only [if_pos (show (1000 : Int32) ≤ nI 1000 by decide)]
  | succ n ih =>
    intro i v M fl hi hM hv hp hf f hlt
    obtain ⟨f, rfl⟩ : ∃ g, f = g + 1 := ⟨f - 1, by omega⟩
    have hv99 := (hv i (by omega)).2
    obtain ⟨u1, u2, u3, u4⟩ := up3_ok (s := s) (R := R) hv99
    obtain ⟨hp', hm⟩ := spp_up hp hv99
    have hf' : (fl ||| (if up3 s R v i ≤ v i then 0 else 1) = 0 ∨ fl ||| (if up3 s R v i ≤ v i then 0 else 1) = (1 : Int32)) := by
      by_cases c : up3 s R v i ≤ v i
      · rw [if_pos c]; rcases hf with rfl | rfl <;> decide
      · rw [if_neg c]; rcases hf with rfl | rfl <;> decide
    obtain ⟨fl', M', v', e, q1, q2, q3, q4, q5, q6, q7⟩ := ih (i + 1) _ _ _ (by omega) (sR_fr hM (fr_up M 0 13 i (nI (up3 s R v i)))) (cv_up hv u2) hp' hf' f (by omega)
    refine ⟨fl', M', v', ?_, q1, fr_tr (fr_up _ _ _ _ _) q2, q3, fun r => Nat.le_trans (hm r) (q4 r), q5, fun z => ?_, fun z => ?_⟩
    · show fX0_holdOn_L4 (am_it _ f) _ = _
      rw [on_step hM hs hR hv (by omega)]
      exact e
    · obtain ⟨z1, z2, z3⟩ := q6 z
      have c : up3 s R v i ≤ v i := by
        by_cases c : up3 s R v i ≤ v i
        · exact c
        · rw [if_neg c] at z1
          rcases hf with rfl | rfl <;> exact absurd z1 (by decide)
      have same : va_up v i (up3 s R v i) = v := by
        have : up3 s R v i = v i := by omega
        rw [this, up_same]
      rw [if_pos c] at z1
      rw [same] at z2 z3
      refine ⟨?_, z2, fun r h1 h2 k hk => ?_⟩
      · rcases hf with rfl | rfl
        · rfl
        · exact absurd z1 (by decide)
      · by_cases er : r = i
        · subst er
          exact Nat.le_trans (u3 k hk) c
        · exact z3 r (by omega) h2 k hk
    · rcases q7 z with y | ⟨r, hr, y⟩
      · by_cases c : up3 s R v i ≤ v i
        · rw [if_pos c] at y
          left
          rcases hf with rfl | rfl
          · exact absurd y (by decide)
          · rfl
        · right
          refine ⟨i, by omega, ?_⟩
          have := q4 i
          have e1 : va_up v i (up3 s R v i) i = up3 s R v i := by simp [va_up]
          rw [e1] at this
          omega
      · exact Or.inr ⟨r, hr, Nat.lt_of_le_of_lt (hm r) y⟩
def hsum (v : Nat → Nat) : Nat → Nat
  | 0 => 0
  | n + 1 => hsum v n + v n
theorem hsum_le {v v' : Nat → Nat} (h : ∀ r, v r ≤ v' r) (n : Nat) : hsum v n ≤ hsum v' n := by
  induction n with
  | zero => exact Nat.le_refl _
  | succ n ih => have := h n; show hsum v n + v n ≤ hsum v' n + v' n; omega
theorem hsum_lt {v v' : Nat → Nat} (h : ∀ r, v r ≤ v' r) {r : Nat} (hl : v r < v' r) (n : Nat) (hr : r < n) : hsum v n < hsum v' n := by
  induction n with
  | zero => omega
  | succ n ih =>
    show hsum v n + v n < hsum v' n + v' n
    by_cases e : r = n
    · subst e; have := hsum_le h r; omega
    · have := ih (by omega); have := h n; omega
theorem hsum_99 {v : Nat → Nat} (n : Nat) (h : ∀ r, r < n → v r ≤ 99) : hsum v n ≤ 99 * n := by
  induction n with
  | zero => exact Nat.le_refl _
  | succ n ih =>
    have := ih (fun r hr => h r (by omega))
    have := h n (by omega)
    show hsum v n + v n ≤ _
    omega
def fix (s R v : Nat → Nat) : Prop := (∀ r, r < 1000 → v r ≤ 99 ∧ ∀ k, k < 3 → bt s R v r k ≤ v r) ∧ spp s R v
theorem holdOn_eq {s R : Nat → Nat} (hs : ∀ k, s k < 10) (hR : ∀ k, R k < 10) {v : Nat → Nat} {M : am_M} (hM : sR M s R) (hv : cv M v) (hp : spp s R v) : ∃ fl' M' v', fX0_holdOn M = some (fl', M') ∧ cv M' v' ∧ fr 0 13 M M' ∧ spp s R v' ∧ (∀ r, v r ≤ v' r) ∧ ((fl' = 0 ∧ fix s R v') ∨ (fl' = 1 ∧ ∃ r, r < 1000 ∧ v r < v' r)) := by
  obtain ⟨fl', M', v', e, q1, q2, q3, q4, q5, q6, q7⟩ := on_loop hs hR 1000 0 v M 0 (by omega) hM hv hp (Or.inl rfl) am_fuel (by decide)
  refine ⟨fl', M', v', ?_, q1, q2, q5, q4, ?_⟩
  · unfold fX0_holdOn
    have e' : am_it fX0_holdOn_L4 am_fuel ((0 : Int32), (0 : Int32), M) = some (fl', nI 1000, M') := e
    rw [e', Option.bind_some, if_pos q3]
  · rcases q3 with z | z
    · left
      obtain ⟨z1, z2, z3⟩ := q6 z
      refine ⟨z, fun r hr => ⟨(q1 r hr).2, fun k hk => ?_⟩, q5⟩
      rw [z2]
      exact z3 r (by omega) hr k hk
    · right
      rcases q7 z with y | y
      · exact absurd y (by decide)
      · exact ⟨z, y⟩
theorem hold_loop {s R : Nat → Nat} (hs : ∀ k, s k < 10) (hR : ∀ k, R k < 10) : ∀ (d : Nat) (v : Nat → Nat) (M : am_M), 99000 - hsum v 1000 ≤ d → sR M s R → cv M v → spp s R v → ∀ f, d + 2 ≤ f → ∃ M' v', am_it fX0_hold_L122 f ((1 : Int32), M) = some ((0 : Int32), M') ∧ cv M' v' ∧ fr 0 13 M M' ∧ fix s R v' := by
  intro d
  induction d with
  | zero =>
    intro v M hd hM hv hp f hf
    obtain ⟨f, rfl⟩ : ∃ g, f = g + 1 + 1 := ⟨f - 2, by omega⟩
    obtain ⟨fl', M', v', e, q1, q2, q3, q4, q5⟩ := holdOn_eq hs hR hM hv hp
    rcases q5 with ⟨rfl, q5⟩ | ⟨rfl, r, hr, q5⟩
    · refine ⟨M', v', ?_, q1, q2, q5⟩
      show fX0_hold_L122 (am_it _ (f + 1)) _ = _
      unfold fX0_hold_L122
      simp only [if_neg (show ¬ (1 : Int32) = 0 by decide)]
      rw [e, Option.bind_some]
      show fX0_hold_L122 (am_it _ f) _ = _
      unfold fX0_hold_L122
      simp only [if_pos]
    · have h1 := hsum_lt q4 q5 1000 hr
      have h2 := hsum_99 1000 (fun r hr => (q1 r hr).2)
      omega
  | succ d ih =>
    intro v M hd hM hv hp f hf
    obtain ⟨f, rfl⟩ : ∃ g, f = g + 1 + 1 := ⟨f - 2, by omega⟩
    obtain ⟨fl', M', v', e, q1, q2, q3, q4, q5⟩ := holdOn_eq hs hR hM hv hp
    rcases q5 with ⟨rfl, q5⟩ | ⟨rfl, r, hr, q5⟩
    · refine ⟨M', v', ?_, q1, q2, q5⟩
      show fX0_hold_L122 (am_it _ (f + 1)) _ = _
      unfold fX0_hold_L122
      simp only [if_neg (show ¬ (1 : Int32) = 0 by decide)]
      rw [e, Option.bind_some]
      show fX0_hold_L122 (am_it _ f) _ = _
      unfold fX0_hold_L122
      simp only [if_pos]
    · have h1 := hsum_lt q4 q5 1000 hr
      have h2 := hsum_99 1000 (fun r hr => (q1 r hr).2)
      obtain ⟨M2, v2, e2, p1, p2, p3⟩ := ih v' M' (by omega) (sR_fr hM q2) q1 q3 (f + 1) (by omega)
      refine ⟨M2, v2, ?_, p1, fr_tr q2 p2, p3⟩
      show fX0_hold_L122 (am_it _ (f + 1)) _ = _
      rw [fX0_hold_L122]
      simp only [if_neg (show ¬ (1 : Int32) = 0 by decide)]
      rw [e, Option.bind_some]
      exact e2
theorem fill_k : ∀ (n i : Nat) (M : am_M), i + n = 1000 → (∀ r, r < i → M 0 13 r = 0) → ∀ f, n < f → ∃ M', am_it (fX0_fill_L2 0 13 1000 (0 : Int32)) f (nI i, M) = some (nI 1000, M') ∧ fr 0 13 M M' ∧ ∀ r, r < 1000 → M' 0 13 r = 0 := by
  intro n
  induction n with
  | zero =>
    intro i M hi h f hf
    obtain ⟨f, rfl⟩ : ∃ g, f = g + 1 := ⟨f - 1, by omega⟩
    have : i = 1000 := by omega
    subst this
    refine ⟨M, ?_, fr_rf _ _ _, h⟩
    show fX0_fill_L2 _ _ _ _ (am_it _ f) _ = _
    unfold fX0_fill_L2
    simp only [if_pos (show Int32.ofNat 1000 ≤ nI 1000 by decide)]
  | succ n ih =>
    intro i M hi h f hf
    obtain ⟨f, rfl⟩ : ∃ g, f = g + 1 := ⟨f - 1, by omega⟩
    obtain ⟨M', e, q1, q2⟩ := ih (i + 1) (am_up M 0 13 i 0) (by omega) (fun r hr => by
      by_cases c : r = i
      · subst c; simp [am_up, va_up]
      · have := h r (by omega)
        simpa [am_up, va_up, c] using this) f (by omega)
    refine ⟨M', ?_, fr_tr (fr_up _ _ _ _ _) q1, q2⟩
    show fX0_fill_L2 _ _ _ _ (am_it _ f) _ = _
    rw [fX0_fill_L2]
    have nl : ¬ Int32.ofNat 1000 ≤ nI i := nI_ge (a := i) (b := 1000) (by omega) (by omega)
    simp only [if_neg nl, nI_add1]
    rw [wr_n (by omega) (by omega), Option.bind_some]
    exact e
theorem fill_13 (M : am_M) : ∃ M', fX0_fill M 0 13 1000 (0 : Int32) = some M' ∧ fr 0 13 M M' ∧ ∀ r, r < 1000 → M' 0 13 r = 0 := by
  obtain ⟨M', e, q1, q2⟩ := fill_k 1000 0 M (by omega) (fun r hr => by omega) am_fuel (by decide)
  refine ⟨M', ?_, q1, q2⟩
  unfold fX0_fill
  have e' : am_it (fX0_fill_L2 0 13 1000 (0 : Int32)) am_fuel ((0 : Int32), M) = some (nI 1000, M') := e
  rw [e', Option.bind_some]
/-- the digits are laid -/
theorem dig_loop {S Q : Nat} (hS : S < 1000) (hQ : Q < 1000) : ∀ (n j : Nat) (M : am_M), j + n = 3 → (∀ k, k < j → M 0 14 k = nI (dg S k) ∧ M 0 15 k = nI (dg Q k)) → ∀ f, n + 1 < f → ∃ x i M', am_it (fX0_hold_L43 (nI S) (nI Q)) f ((1 : Int32), nI j, M) = some (x, i, M') ∧ (∀ a b, ¬ (a = 0 ∧ (b = 14 ∨ b = 15)) → M' a b = M a b) ∧ ((x = 1 ∧ sR M' (dg S) (dg Q) ∧ ∀ k, j ≤ k → k < 3 → 1 ≤ dg S k) ∨ (x = 0 ∧ ∃ k, k < 3 ∧ dg S k = 0)) := by
  intro n
  induction n with
  | zero =>
    intro j M hj h f hf
    obtain ⟨f, rfl⟩ : ∃ g, f = g + 1 := ⟨f - 1, by omega⟩
    have : j = 3 := by omega
    subst this
    refine ⟨1, nI 3, M, ?_, fun _ _ _ => rfl, Or.inl ⟨rfl, h, fun k h1 h2 => by omega⟩⟩
    show fX0_hold_L43 _ _ (am_it _ f) _ = _
    unfold fX0_hold_L43
    simp only [if_pos p3]
  | succ n ih =>
    intro j M hj h f hf
    obtain ⟨f, rfl⟩ : ∃ g, f = g + 1 + 1 := ⟨f - 2, by omega⟩
    have hd := dg_lt hS j
    have fm : ∀ a b, ¬ (a = 0 ∧ (b = 14 ∨ b = 15)) → am_up (am_up M 0 14 j (nI (dg S j))) 0 15 j (nI (dg Q j)) a b = M a b := fun a b hab => by
      rw [fr_up _ 0 15 j _ a b (by omega), fr_up _ 0 14 j _ a b (by omega)]
    have rdv : am_up (am_up M 0 14 j (nI (dg S j))) 0 15 j (nI (dg Q j)) 0 14 j = nI (dg S j) := by simp [am_up, va_up]
    by_cases c : dg S j = 0
    · refine ⟨0, nI (j + 1), am_up (am_up M 0 14 j (nI (dg S j))) 0 15 j (nI (dg Q j)), ?_, fm, Or.inr ⟨rfl, j, by omega, c⟩⟩
      show fX0_hold_L43 _ _ (am_it _ (f + 1)) _ = _
      rw [fX0_hold_L43]
      simp only [if_neg (n3 (show j < 3 by omega)), if_neg (show ¬ (1 : Int32) = 0 by decide), digit0 hS (show j < 3 by omega), digit0 hQ (show j < 3 by omega), nI_add1]
      rw [wr_n (by omega) (by omega), Option.bind_some, wr_n (by omega) (by omega), Option.bind_some, rd3 (by omega), Option.bind_some, rdv, if_pos (by rw [c]; decide), Option.bind_some]
      show fX0_hold_L43 _ _ (am_it _ f) _ = _
      rw [fX0_hold_L43]
      by_cases z : (3 : Int32) ≤ nI (j + 1)
      · simp only [if_pos z]
      · simp only [if_neg z, if_pos]
    · obtain ⟨x, i, M', e, q1, q2⟩ := ih (j + 1) (am_up (am_up M 0 14 j (nI (dg S j))) 0 15 j (nI (dg Q j))) (by omega) (fun k hk => by
        by_cases ek : k = j
        · subst ek; simp [am_up, va_up]
        · have := h k (by omega)
          simpa [am_up, va_up, ek] using this) (f + 1) (by omega)
      refine ⟨x, i, M', ?_, fun a b hab => (q1 a b hab).trans (fm a b hab), ?_⟩
      · show fX0_hold_L43 _ _ (am_it _ (f + 1)) _ = _
        rw [fX0_hold_L43]
        simp only [if_neg (n3 (show j < 3 by omega)), if_neg (show ¬ (1 : Int32) = 0 by decide), digit0 hS (show j < 3 by omega), digit0 hQ (show j < 3 by omega), nI_add1]
        rw [wr_n (by omega) (by omega), Option.bind_some, wr_n (by omega) (by omega), Option.bind_some, rd3 (by omega), Option.bind_some, rdv, if_neg (by rw [show (0 : Int32) = nI 0 from rfl, lit_le (by omega) (by omega)]; omega), Option.bind_some]
        exact e
      · rcases q2 with ⟨y1, y2, y3⟩ | y
        · refine Or.inl ⟨y1, y2, fun k h1 h2 => ?_⟩
          by_cases ek : k = j
          · subst ek; omega
          · exact y3 k (by omega) h2
        · exact Or.inr y
