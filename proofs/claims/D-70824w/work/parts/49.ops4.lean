/-! OPERATIONS: shakes, round, told -/
set_option maxRecDepth 100000
def shk (m : Nat → Nat → Int32) (a b : Nat) : Int32 := if (sg m a && (sg m b && (decide (m 10 a = m 10 b) && decide (m 11 a = m 11 b + 1)))) = true then (1 : Int32) <<< (m 10 a &&& 31) else 0
theorem sub1 (a b : Int32) : (a - b = 1) = (a = b + 1) := by
  apply propext
  constructor
  · intro h; grind
  · intro h; grind
theorem shk_x0 {M : am_M} {a : Nat} (ha : a < 8) (s : Int32) : am_it (fX0_shakes_L12 M (s, nI a)) am_fuel (s, (0 : Int32)) = some (fo (fun b x => x ||| shk (M 2) a b) s 8, nI 8) := by
  refine it_fo (F := fX0_shakes_L12 M (s, nI a)) (fun b x => x ||| shk (M 2) a b) s 8 (fun x => (x, nI 8)) (fun _ _ => True) (by omega) trivial (fun i x hi _ => ⟨fun rec => ?_, trivial⟩) (fun x _ rec => ?_)
  · unfold fX0_shakes_L12 shk
    simp only [if_neg (n8 hi), sings_eq ha, sings_eq hi, rd8 ha, rd8 hi, Option.bind_some, ite_b1, nI_add1]
    cases sg (M 2) a with
    | false => simp
    | true =>
      cases sg (M 2) i with
      | false => simp
      | true =>
        by_cases h1 : M 2 10 a = M 2 10 i
        · simp only [if_true, if_pos h1, Option.bind_some, if_neg (show ¬ (1 : Int32) = 0 by decide), h1, decide_true, Bool.true_and]
          by_cases h2 : M 2 11 a = M 2 11 i + 1
          · rw [if_pos (by rw [sub1]; exact h2), Option.bind_some]
            simp [h2]
          · rw [if_neg (by rw [sub1]; exact h2), Option.bind_some]
            simp [h2]
        · simp [h1]
  · unfold fX0_shakes_L12
    simp only [if_pos p8]
theorem shk_x2 {N : am_M} {m : Nat → Nat → Int32} (hr : rel m (nowv (N 1))) {a : Nat} (ha : a < 8) (s : Int32) : am_it (fX2_shakes_L16 N (s, nI a)) am_fuel (s, (0 : Int32)) = some (fo (fun b x => x ||| shk m a b) s 8, nI 8) := by
  refine it_fo (F := fX2_shakes_L16 N (s, nI a)) (fun b x => x ||| shk m a b) s 8 (fun x => (x, nI 8)) (fun _ _ => True) (by omega) trivial (fun i x hi _ => ⟨fun rec => ?_, trivial⟩) (fun x _ rec => ?_)
  · obtain ⟨-, q2, -, -, -, q6⟩ := rel_now hr ha
    obtain ⟨-, -, -, -, -, q6'⟩ := rel_now hr hi
    unfold fX2_shakes_L16 shk
    simp only [if_neg (n8 hi), show (16 : Int32) + nI a = nI (16 + a) from nI_add 16 a, rd36 (show 16 + a < 36 by omega), rd36 (show a < 36 by omega), rd36 (show i < 36 by omega), q2, singsM_eq hr ha, singsM_eq hr hi, Option.bind_some, ite_b1, nI_add1, decide_true, Bool.and_true]
    cases h1 : sg m a with
    | false => simp
    | true =>
      cases h2 : sg m i with
      | false => simp
      | true =>
        have p1 : hb (m 5 0) (nI a) = true := by unfold sg at h1; simp only [Bool.and_eq_true] at h1; exact h1.1
        have p2 : hb (m 5 0) (nI i) = true := by unfold sg at h2; simp only [Bool.and_eq_true] at h2; exact h2.1
        rw [q6 p1, q6' p2]
        by_cases h3 : m 10 i = m 10 a
        · have h3' : m 10 a = m 10 i := h3.symm
          by_cases h4 : m 11 a = m 11 i + 1
          · simp [h3, h4]
          · simp [h3, h4]
        · have h3' : ¬ m 10 a = m 10 i := fun z => h3 z.symm
          simp [h3, h3']
  · unfold fX2_shakes_L16
    simp only [if_pos p8]
theorem op_shakes {L : Nat → Bool} {M : am_M} (h : Inv L M) : ∃ r M2, fX0_shakes M = some r ∧ fX2_shakes M = some (r, M2) ∧ Inv L M2 := by
  have hr := asn_rel h.2.1
  refine ⟨fo (fun a s => fo (fun b x => x ||| shk (M 2) a b) s 8) 0 8, asnM M, ?_, ?_, Inv_eqc h (asn_eqc M)⟩
  · unfold fX0_shakes
    rw [it_fo (F := fX0_shakes_L4 M) (fun a s => fo (fun b x => x ||| shk (M 2) a b) s 8) 0 8 (fun x => (x, nI 8)) (fun _ _ => True) (by omega) trivial (fun i x hi _ => ⟨fun rec => ?_, trivial⟩) (fun x _ rec => ?_)]
    · rfl
    · unfold fX0_shakes_L4
      simp only [if_neg (n8 hi), shk_x0 hi, Option.bind_some, nI_add1]
    · unfold fX0_shakes_L4
      simp only [if_pos p8]
  · unfold fX2_shakes
    rw [asNow_eq, Option.bind_some]
    rw [it_fo (F := fX2_shakes_L8 (asnM M)) (fun a s => fo (fun b x => x ||| shk (M 2) a b) s 8) 0 8 (fun x => (x, nI 8)) (fun _ _ => True) (by omega) trivial (fun i x hi _ => ⟨fun rec => ?_, trivial⟩) (fun x _ rec => ?_)]
    · rfl
    · unfold fX2_shakes_L8
      simp only [if_neg (n8 hi), shk_x2 hr hi, Option.bind_some, nI_add1]
    · unfold fX2_shakes_L8
      simp only [if_pos p8]
theorem in_1_99n {a : Int32} (h : ¬ fX2_in a 1 99 = 0) : ∃ n, 1 ≤ n ∧ n ≤ 99 ∧ a = nI n := by
  obtain ⟨h1, h2⟩ := in_ok h
  obtain ⟨j, hj, e⟩ := nI_of2 (x := a) (M := 99) (n := 99) (by decide) (Int32.not_lt.mpr (Int32.le_trans (by decide) h1)) h2
  refine ⟨j, ?_, hj, e⟩
  rw [e] at h1
  exact (nI_leI (a := 1) (b := j) (by omega) (by omega)).mp h1
theorem round_it {p a q b : Nat} (hp : 1 ≤ p) (hp9 : p ≤ 99) (hq : 1 ≤ q) (hq9 : q ≤ 99) : ∃ r, am_it (fX0_round_L55 (nI p) (nI a) (nI q) (nI b)) am_fuel (0 : Int32) = some r := by
  have hpq : p * q ≤ 99 * 99 := Nat.mul_le_mul hp9 hq9
  have e : nI p * nI q = nI (p * q) := pk_mul p q
  have np : ¬ nI p = 0 := nI_ne0 hp (by omega)
  have nq : ¬ nI q = 0 := nI_ne0 hq (by omega)
  have step : ∀ i, i < p * q → ∀ rec, fX0_round_L55 (nI p) (nI a) (nI q) (nI b) rec (nI i) = if (decide (jv_rem (nI i + nI a) (nI p) = 0) && decide (jv_rem (nI i + nI b) (nI q) = 0)) = true then some (.inl (nI i)) else rec (nI (i + 1)) := by
    intro i hi rec
    unfold fX0_round_L55
    rw [e, if_neg (nI_ge hi (by omega)), if_neg np, if_neg nq, nI_add1]
    by_cases h1 : jv_rem (nI i + nI a) (nI p) = 0
    · rw [if_pos h1]
      by_cases h2 : jv_rem (nI i + nI b) (nI q) = 0
      · rw [if_pos h2]; simp [h1, h2]
      · rw [if_neg h2]; simp [h2]
    · rw [if_neg h1]; simp [h1]
  rcases first_of (fun i => decide (jv_rem (nI i + nI a) (nI p) = 0) && decide (jv_rem (nI i + nI b) (nI q) = 0)) (p * q) with ⟨-, h2⟩ | ⟨t, ht, hh, hl, -⟩
  · exact ⟨.inr (nI (p * q)), it_n (p * q) (by omega) (fun i hi rec => by rw [step i hi, h2 i hi]; rfl) (fun rec => by unfold fX0_round_L55; rw [e, if_pos (Int32.le_refl _)])⟩
  · exact ⟨.inl (nI t), it_n t (by omega) (fun i hi rec => by rw [step i (by omega), hl i hi]; rfl) (fun rec => by rw [step t ht, hh]; rfl)⟩
theorem op_round (M : am_M) (a b c d : Int32) : ∃ r, fX0_round M a b c d = some r ∧ fX2_round (M 1) a b c d = some r := by
  unfold fX0_round fX2_round
  rw [in_1_99, in_0_99, in_1_99, in_0_99]
  by_cases g1 : fX2_in a 1 99 = 0
  · exact ⟨-2, by rw [if_pos g1], by rw [if_pos g1]⟩
  · by_cases g2 : fX2_in b 0 99 = 0
    · refine ⟨-2, by rw [if_neg g1, if_pos g2], ?_⟩
      rw [if_neg g1, if_pos g2]
      split <;> rfl
    · by_cases g3 : fX2_in c 1 99 = 0
      · exact ⟨-2, by rw [if_neg g1, if_neg g2, if_pos g3], by rw [if_neg g1, if_pos g3]⟩
      · by_cases g4 : fX2_in d 0 99 = 0
        · exact ⟨-2, by rw [if_neg g1, if_neg g2, if_neg g3, if_pos g4], by rw [if_neg g1, if_neg g3, if_neg g2, if_pos g4]⟩
        · rw [if_neg g1, if_neg g2, if_neg g3, if_neg g4, if_neg g1, if_neg g3, if_neg g2, if_neg g4]
          obtain ⟨p, p1, p2, rfl⟩ := in_1_99n g1
          obtain ⟨x, -, rfl⟩ := in_n (n := 99) (by omega) g2
          obtain ⟨q, q1, q2, rfl⟩ := in_1_99n g3
          obtain ⟨y, -, rfl⟩ := in_n (n := 99) (by omega) g4
          obtain ⟨r, hr⟩ := round_it (a := x) (b := y) p1 p2 q1 q2
          rw [show fX2_round_L47 = fX0_round_L55 from rfl, hr]
          cases r with
          | inl z => exact ⟨z, rfl, rfl⟩
          | inr z => exact ⟨-6, rfl, rfl⟩
theorem told_all {L : Nat → Bool} {M : am_M} (h : Inv L M) (a : Int32) : ∃ r M2, fX0_toldOfAll M a = some r ∧ (if a = 0 then some ((M 1 11 0), M) else (if a = 1 then some ((M 1 2 0), M) else (if a = 2 then (Option.bind (fX2_asNow M) fun M4 => (Option.bind (fX2_lamps (M4 1)) fun v5 => some (v5, M4))) else (if a = 3 then (Option.bind (am_rd (M 1 0) 36 (35 : Int32)) fun v7 => some (v7, M)) else (if a = 4 then (Option.bind (am_rd (M 1 0) 36 (34 : Int32)) fun v9 => some (v9, M)) else (if a = 5 then some ((M 1 8 0), M) else (if a = (6 : Int32) then some ((M 1 9 0), M) else some ((-2 : Int32), M)))))))) = some (r, M2) ∧ Inv L M2 := by
  have h0 := h
  obtain ⟨hw, hr, ⟨s, hs, e1, e2, -, -⟩, -⟩ := h
  unfold fX0_toldOfAll
  rw [e1, e2, hr.2.2.2.2.1, hr.2.2.2.2.2.1, hr.2.2.2.2.2.2.1, asNow_eq, Option.bind_some, lampsM_eq hw (asn_rel hr), lamps_eq, show (35 : Int32) = nI 35 from rfl, rd36 (show 35 < 36 by omega), show (34 : Int32) = nI 34 from rfl, rd36 (show 34 < 36 by omega), hr.2.2.1, hr.2.2.2.1]
  split
  · exact ⟨_, M, rfl, rfl, h0⟩
  · split
    · exact ⟨_, M, rfl, rfl, h0⟩
    · split
      · exact ⟨_, asnM M, rfl, rfl, Inv_eqc h0 (asn_eqc M)⟩
      · split
        · exact ⟨_, M, rfl, rfl, h0⟩
        · split
          · exact ⟨_, M, rfl, rfl, h0⟩
          · split
            · exact ⟨_, M, rfl, rfl, h0⟩
            · split
              · exact ⟨_, M, rfl, rfl, h0⟩
              · exact ⟨_, M, rfl, rfl, h0⟩
theorem told_voice {L : Nat → Bool} {M : am_M} (h : Inv L M) (a b : Int32) : ∃ r, fX0_toldOfVoice M a b = some r ∧ fX2_toldVoice (M 1) a b = some r := by
  unfold fX0_toldOfVoice fX2_toldVoice
  rw [here_in h]
  by_cases g1 : fX2_isThere (M 1) a = 0
  · exact ⟨-2, by rw [if_pos g1], by rw [if_pos g1]⟩
  · rw [if_neg g1, if_neg g1]
    obtain ⟨k, hk, rfl, hbk⟩ := there_ok g1
    obtain ⟨q1, q2, q3, q4, q5, q6⟩ := h.2.1.1 k hk
    rw [h.2.1.2.2.2.2.1] at hbk
    simp only [rd8 hk, show (8 : Int32) + nI k = nI (8 + k) from nI_add 8 k, show (16 : Int32) + nI k = nI (16 + k) from nI_add 16 k, rd36 (show 8 + k < 36 by omega), rd36 (show 16 + k < 36 by omega), rd36 (show k < 36 by omega), q1, q2, q3, q4, q5, q6 hbk, Option.bind_some]
    split
    · exact ⟨_, rfl, rfl⟩
    · split
      · exact ⟨_, rfl, rfl⟩
      · split
        · exact ⟨_, rfl, rfl⟩
        · split
          · exact ⟨_, rfl, rfl⟩
          · split
            · exact ⟨_, rfl, rfl⟩
            · split
              · exact ⟨_, rfl, rfl⟩
              · exact ⟨_, rfl, rfl⟩
theorem op_told {L : Nat → Bool} {M : am_M} (h : Inv L M) (a : Int32) : ∃ r M2, fX0_told M a = some r ∧ fX2_told M a = some (r, M2) ∧ Inv L M2 := by
  unfold fX0_told fX2_told
  rw [in_100_199, in_10_89, in_le, in_le]
  by_cases g0 : a < 10
  · have g00 : a < 100 := by
      rw [Int32.lt_iff_toInt_lt] at *
      have : (10 : Int32).toInt = 10 := by decide
      have : (100 : Int32).toInt = 100 := by decide
      omega
    have n1 : ¬ (100 ≤ a ∧ a ≤ 199) := fun z => absurd z.1 (Int32.not_le.mpr g00)
    have n2 : ¬ (10 ≤ a ∧ a ≤ 89) := fun z => absurd z.1 (Int32.not_le.mpr g0)
    rw [if_neg n1, if_neg n2, if_pos rfl, if_pos rfl, if_pos g00, if_pos g0]
    obtain ⟨r, M2, q1, q2, q3⟩ := told_all h a
    exact ⟨r, M2, by rw [q1]; rfl, q2, q3⟩
  · have ha : ¬ a < 0 := by
      intro z
      apply g0
      rw [Int32.lt_iff_toInt_lt] at *
      have h10 : (10 : Int32).toInt = 10 := by decide
      have h00 : (0 : Int32).toInt = 0 := by decide
      omega
    obtain ⟨x, hx, rfl⟩ := nI_of ha
    have x10 : 10 ≤ x := by
      have := Int32.not_lt.mp g0
      exact (nI_leI (a := 10) (b := x) (by omega) hx).mp this
    have f1 : (100 ≤ nI x ∧ nI x ≤ 199) ↔ (100 ≤ x ∧ x ≤ 199) := by
      rw [show (100 : Int32) = nI 100 from rfl, show (199 : Int32) = nI 199 from rfl, nI_leI (by omega) hx, nI_leI hx (by omega)]
    have f2 : (10 ≤ nI x ∧ nI x ≤ 89) ↔ (10 ≤ x ∧ x ≤ 89) := by
      rw [show (10 : Int32) = nI 10 from rfl, show (89 : Int32) = nI 89 from rfl, nI_leI (by omega) hx, nI_leI hx (by omega)]
    have f3 : (nI x < 100) ↔ x < 100 := nI_ltI (a := x) (b := 100) hx (by omega)
    have ed : nI x / 10 = nI (x / 10) := pk_div (a := x) (d := 10) hx (by omega) (by omega)
    have er : jv_rem (nI x) 10 = nI (x % 10) := pk_rem (a := x) (d := 10) hx (by omega) (by omega)
    by_cases h1 : x < 100
    · have n1 : ¬ (100 ≤ nI x ∧ nI x ≤ 199) := fun z => absurd (f1.mp z).1 (by omega)
      rw [if_neg n1, if_pos rfl, if_pos (f3.mpr h1), if_neg g0]
      by_cases h2 : x ≤ 89
      · rw [if_pos (f2.mpr ⟨x10, h2⟩), if_neg (by decide)]
        obtain ⟨r, q1, q2⟩ := told_voice h (nI x / 10 - 1) (jv_rem (nI x) 10)
        exact ⟨r, M, by rw [q1]; rfl, by rw [q2]; rfl, h⟩
      · rw [if_neg (fun z => h2 (f2.mp z).2), if_pos rfl]
        refine ⟨-2, M, ?_, ?_, h⟩
        · unfold fX0_toldOfAll
          have ne : ∀ k, k < 7 → ¬ nI x = nI k := fun k hk z => by have := (nI_eq hx (by omega)).mp z; omega
          rw [if_neg (show ¬ nI x = (0 : Int32) from ne 0 (by omega)), if_neg (show ¬ nI x = (1 : Int32) from ne 1 (by omega)), if_neg (show ¬ nI x = (2 : Int32) from ne 2 (by omega)), if_neg (show ¬ nI x = (3 : Int32) from ne 3 (by omega)), if_neg (show ¬ nI x = (4 : Int32) from ne 4 (by omega)), if_neg (show ¬ nI x = (5 : Int32) from ne 5 (by omega)), if_neg (show ¬ nI x = (6 : Int32) from ne 6 (by omega))]
          rfl
        · rw [ed]
          have e8 : x / 10 = 9 := by omega
          rw [e8]
          unfold fX2_toldVoice
          rw [show fX2_isThere (M 1) (nI 9 - 1) = 0 by unfold fX2_isThere; rw [show fX2_in (nI 9 - 1) 0 7 = 0 by decide, if_pos rfl], if_pos rfl]
          rfl
    · rw [if_neg (fun z => h1 (f3.mp z))]
      have e10 : nI (x / 10) - 10 = nI (x / 10 - 10) := pk_sub (a := x / 10) (b := 10) (by omega)
      rw [ed, e10, isGal2_in, in_le]
      by_cases h2 : x ≤ 199
      · rw [if_pos (f1.mpr ⟨by omega, h2⟩), if_neg (by decide)]
        have hg : x / 10 - 10 < 10 := by omega
        rw [if_pos (show 0 ≤ nI (x / 10 - 10) ∧ nI (x / 10 - 10) ≤ 9 from ⟨nI_pos' (by omega), nI_le (b := 9) (by omega) (by omega)⟩), if_neg (show ¬ (1 : Int32) = 0 by decide)]
        have es : nI x - 100 = nI (x - 100) := pk_sub (a := x) (b := 100) (by omega)
        have ed2 : nI (x - 100) / 10 = nI ((x - 100) / 10) := pk_div (a := x - 100) (d := 10) (by omega) (by omega) (by omega)
        have eg : (x - 100) / 10 = x / 10 - 10 := by omega
        rw [es, ed2, eg, er]
        obtain ⟨q1, q2, q3⟩ := h.2.1.2.1 _ hg
        unfold fX0_toldOfGallery
        simp only [rd10 hg, show (24 : Int32) + nI (x / 10 - 10) = nI (24 + (x / 10 - 10)) from nI_add 24 _, rd36 (show 24 + (x / 10 - 10) < 36 by omega), q1, q2, q3, Option.bind_some]
        have l2 : (nI (x % 10) ≤ 2) ↔ x % 10 ≤ 2 := nI_leI (a := x % 10) (b := 2) (by omega) (by omega)
        have ne : ∀ k, k < 10 → (nI (x % 10) = nI k ↔ x % 10 = k) := fun k hk => nI_eq (by omega) (by omega)
        by_cases z0 : x % 10 = 0
        · rw [if_pos (show nI (x % 10) = (0 : Int32) from (ne 0 (by omega)).mpr z0), if_pos (l2.mpr (by omega)), if_pos (show nI (x % 10) = (0 : Int32) from (ne 0 (by omega)).mpr z0)]
          exact ⟨_, M, rfl, rfl, h⟩
        · rw [if_neg (show ¬ nI (x % 10) = (0 : Int32) from fun z => z0 ((ne 0 (by omega)).mp z))]
          by_cases z1 : x % 10 = 1
          · rw [if_pos (show nI (x % 10) = (1 : Int32) from (ne 1 (by omega)).mpr z1), if_pos (l2.mpr (by omega)), if_neg (show ¬ nI (x % 10) = (0 : Int32) from fun z => z0 ((ne 0 (by omega)).mp z)), if_pos (show nI (x % 10) = (1 : Int32) from (ne 1 (by omega)).mpr z1)]
            exact ⟨_, M, rfl, rfl, h⟩
          · rw [if_neg (show ¬ nI (x % 10) = (1 : Int32) from fun z => z1 ((ne 1 (by omega)).mp z))]
            by_cases z2 : x % 10 = 2
            · rw [if_pos (show nI (x % 10) = (2 : Int32) from (ne 2 (by omega)).mpr z2), if_pos (l2.mpr (by omega)), if_neg (show ¬ nI (x % 10) = (0 : Int32) from fun z => z0 ((ne 0 (by omega)).mp z)), if_neg (show ¬ nI (x % 10) = (1 : Int32) from fun z => z1 ((ne 1 (by omega)).mp z))]
              exact ⟨_, M, rfl, rfl, h⟩
            · rw [if_neg (show ¬ nI (x % 10) = (2 : Int32) from fun z => z2 ((ne 2 (by omega)).mp z)), if_neg (fun z => absurd (l2.mp z) (by omega))]
              exact ⟨_, M, rfl, rfl, h⟩
      · rw [if_neg (fun z => h2 (f1.mp z).2), if_pos rfl, if_neg (fun z => absurd (f2.mp z).2 (by omega)), if_pos rfl]
        refine ⟨-2, M, ?_, ?_, h⟩
        · unfold fX0_toldOfAll
          have ne : ∀ k, k < 7 → ¬ nI x = nI k := fun k hk z => by have := (nI_eq hx (by omega)).mp z; omega
          rw [if_neg (show ¬ nI x = (0 : Int32) from ne 0 (by omega)), if_neg (show ¬ nI x = (1 : Int32) from ne 1 (by omega)), if_neg (show ¬ nI x = (2 : Int32) from ne 2 (by omega)), if_neg (show ¬ nI x = (3 : Int32) from ne 3 (by omega)), if_neg (show ¬ nI x = (4 : Int32) from ne 4 (by omega)), if_neg (show ¬ nI x = (5 : Int32) from ne 5 (by omega)), if_neg (show ¬ nI x = (6 : Int32) from ne 6 (by omega))]
          rfl
        · rw [if_neg (show ¬ (0 ≤ nI (x / 10 - 10) ∧ nI (x / 10 - 10) ≤ 9) from fun z => absurd ((nI_leI (b := 9) (by omega) (by omega)).mp z.2) (by omega)), if_pos rfl]
