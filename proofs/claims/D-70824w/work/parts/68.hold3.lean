/-! OPERATION: hold, both -/
set_option maxRecDepth 100000
def bsP (X : Nat → Nat) (i : Nat) (p : Nat × Nat) : Nat × Nat := if X i ≤ p.1 then p else (X i, i)
theorem best_loop {S Q : Nat} (hS : S < 1000) (hQ : Q < 1000) (hs : ∀ k, k < 3 → 1 ≤ dg S k) {v : Nat → Nat} (hf : fix (dg S) (dg Q) v) : ∀ (n i : Nat) (M : am_M), i + n = 3 → ∀ f, n < f → ∃ M', am_it (fX2_hold_L61 (nI S) (nI Q)) f (nI (fo (bsP (bt (dg S) (dg Q) v 0)) (0, 0) i).1, nI (fo (bsP (bt (dg S) (dg Q) v 0)) (0, 0) i).2, nI i, M) = some (nI (fo (bsP (bt (dg S) (dg Q) v 0)) (0, 0) 3).1, nI (fo (bsP (bt (dg S) (dg Q) v 0)) (0, 0) 3).2, nI 3, M') ∧ fr 1 19 M M' := by
  have hb : ∀ i, (fo (bsP (bt (dg S) (dg Q) v 0)) (0, 0) i).1 ≤ 99 := fun i => by
    induction i with
    | zero => exact Nat.zero_le _
    | succ i ih =>
      show (bsP (bt (dg S) (dg Q) v 0) i (fo (bsP (bt (dg S) (dg Q) v 0)) (0, 0) i)).1 ≤ 99
      unfold bsP
      by_cases c : bt (dg S) (dg Q) v 0 i ≤ (fo (bsP (bt (dg S) (dg Q) v 0)) (0, 0) i).1
      · unfold bsP at c ih; rw [if_pos c]; exact ih
      · unfold bsP at c; rw [if_neg c]; exact bt_99 _ _ _ _ _
  intro n
  induction n with
  | zero =>
    intro i M hi f hlt
    obtain ⟨f, rfl⟩ : ∃ g, f = g + 1 := ⟨f - 1, by omega⟩
    have : i = 3 := by omega
    subst this
    refine ⟨M, ?_, fr_rf _ _ _⟩
    show fX2_hold_L61 _ _ (am_it _ f) _ = _
    unfold fX2_hold_L61
    simp only [if_pos p3]
  | succ n ih =>
    intro i M hi f hlt
    obtain ⟨f, rfl⟩ : ∃ g, f = g + 1 := ⟨f - 1, by omega⟩
    obtain ⟨M1, e1, f1⟩ := held_eq hS hQ hs hf (show i < 3 by omega) M
    obtain ⟨M', e', f'⟩ := ih (i + 1) M1 (by omega) f (by omega)
    refine ⟨M', ?_, fr_tr f1 f'⟩
    show fX2_hold_L61 _ _ (am_it _ f) _ = _
    rw [fX2_hold_L61]
    simp only [if_neg (n3 (show i < 3 by omega)), nI_add1]
    rw [e1, Option.bind_some]
    have h1 := hb i
    have h2 := bt_99 (dg S) (dg Q) v 0 i
    have es : fo (bsP (bt (dg S) (dg Q) v 0)) (0, 0) (i + 1) = bsP (bt (dg S) (dg Q) v 0) i (fo (bsP (bt (dg S) (dg Q) v 0)) (0, 0) i) := rfl
    rw [es] at e'
    generalize fo (bsP (bt (dg S) (dg Q) v 0)) (0, 0) i = p at *
    by_cases c : bt (dg S) (dg Q) v 0 i ≤ p.1
    · have ep : bsP (bt (dg S) (dg Q) v 0) i p = p := if_pos c
      rw [ep] at e'
      have c' : nI (bt (dg S) (dg Q) v 0 i) ≤ nI p.1 := (nI_leI (by omega) (by omega)).mpr c
      simp only [if_pos c', Option.bind_some]
      exact e'
    · have ep : bsP (bt (dg S) (dg Q) v 0) i p = (bt (dg S) (dg Q) v 0 i, i) := if_neg c
      rw [ep] at e'
      have c' : ¬ nI (bt (dg S) (dg Q) v 0 i) ≤ nI p.1 := fun z => c ((nI_leI (by omega) (by omega)).mp z)
      simp only [if_neg c', Option.bind_some]
      exact e'
theorem best_ok {X : Nat → Nat} {V : Nat} (h1 : ∀ k, k < 3 → X k ≤ V ∧ 1 ≤ X k) (h2 : V = 0 ∨ ∃ k, k < 3 ∧ V ≤ X k) : (fo (bsP X) (0, 0) 3).1 = V ∧ (fo (bsP X) (0, 0) 3).2 < 3 ∧ V ≤ X (fo (bsP X) (0, 0) 3).2 ∧ ∀ j, j < (fo (bsP X) (0, 0) 3).2 → ¬ V ≤ X j := by
  have a0 := h1 0 (by omega)
  have a1 := h1 1 (by omega)
  have a2 := h1 2 (by omega)
  have h3 : V ≤ X 0 ∨ V ≤ X 1 ∨ V ≤ X 2 := by
    rcases h2 with z | ⟨k, hk, z⟩
    · omega
    · rcases (show k = 0 ∨ k = 1 ∨ k = 2 by omega) with rfl | rfl | rfl
      · exact Or.inl z
      · exact Or.inr (Or.inl z)
      · exact Or.inr (Or.inr z)
  have e0 : fo (bsP X) (0, 0) 1 = (X 0, 0) := if_neg (by show ¬ X 0 ≤ 0; omega)
  have e1 : fo (bsP X) (0, 0) 2 = if X 1 ≤ X 0 then (X 0, 0) else (X 1, 1) := by
    show bsP X 1 (fo (bsP X) (0, 0) 1) = _
    rw [e0]; rfl
  have e2 : fo (bsP X) (0, 0) 3 = bsP X 2 (if X 1 ≤ X 0 then (X 0, 0) else (X 1, 1)) := by
    show bsP X 2 (fo (bsP X) (0, 0) 2) = _
    rw [e1]
  rw [e2]
  by_cases c : X 1 ≤ X 0
  · rw [if_pos c]
    by_cases d : X 2 ≤ X 0
    · rw [show bsP X 2 (X 0, 0) = (X 0, 0) from if_pos d]
      exact ⟨by show X 0 = V; omega, by show 0 < 3; omega, by show V ≤ X 0; omega, fun j hj => absurd hj (Nat.not_lt_zero _)⟩
    · rw [show bsP X 2 (X 0, 0) = (X 2, 2) from if_neg d]
      refine ⟨by show X 2 = V; omega, by show 2 < 3; omega, by show V ≤ X 2; omega, fun j hj => ?_⟩
      have hj' : j < 2 := hj
      rcases (show j = 0 ∨ j = 1 by omega) with rfl | rfl <;> omega
  · rw [if_neg c]
    by_cases d : X 2 ≤ X 1
    · rw [show bsP X 2 (X 1, 1) = (X 1, 1) from if_pos d]
      refine ⟨by show X 1 = V; omega, by show 1 < 3; omega, by show V ≤ X 1; omega, fun j hj => ?_⟩
      have hj' : j < 1 := hj
      rcases (show j = 0 by omega) with rfl
      omega
    · rw [show bsP X 2 (X 1, 1) = (X 2, 2) from if_neg d]
      refine ⟨by show X 2 = V; omega, by show 2 < 3; omega, by show V ≤ X 2; omega, fun j hj => ?_⟩
      have hj' : j < 2 := hj
      rcases (show j = 0 ∨ j = 1 by omega) with rfl | rfl <;> omega
theorem first_eq {M : am_M} {s R v : Nat → Nat} (hM : sR M s R) (hs : ∀ k, s k < 10) (hR : ∀ k, R k < 10) (hv : cv M v) (x : Int32) {t : Nat} (ht : t < 3) (h1 : v 0 ≤ bt s R v 0 t) (h2 : ∀ j, j < t → ¬ v 0 ≤ bt s R v 0 j) : am_it (fX0_hold_L139 (x, M)) am_fuel (0 : Int32) = some (nI t) := by
  have hv0 := hv 0 (by omega)
  have stp : ∀ i, i < 3 → ∀ rec, fX0_hold_L139 (x, M) rec (nI i) = if v 0 ≤ bt s R v 0 i then some (nI i) else rec (nI (i + 1)) := fun i hi rec => by
    unfold fX0_hold_L139
    have e := beats_eq hM hs hR hv (show 0 < 1000 by omega) hi
    have hb := bt_99 s R v 0 i
    rw [show (0 : Int32) = nI 0 from rfl]
    simp only [e, Option.bind_some, rd1k (show 0 < 1000 by omega), hv0.1, lit_le (n := v 0) (i := bt s R v 0 i) (by omega) (by omega), nI_add1]
  refine it_n t (by omega) (fun i hi rec => ?_) (fun rec => ?_)
  · rw [stp i (by omega), if_neg (h2 i hi)]
  · rw [stp t ht, if_pos h1]
theorem dg_all {S : Nat} (h1 : 111 ≤ S) (h : ¬ S % 10 = 0) (h2 : ¬ S / 10 % 10 = 0) : ∀ k, k < 3 → 1 ≤ dg S k := by
  intro k hk
  unfold dg
  rcases (show k = 0 ∨ k = 1 ∨ k = 2 by omega) with rfl | rfl | rfl
  · rw [if_pos rfl]; omega
  · rw [if_neg (by omega), if_pos rfl]; omega
  · rw [if_neg (by omega), if_neg (by omega)]; omega
theorem eqc_h0 {M M' : am_M} (h : ∀ a b, ¬ (a = 0 ∧ (b = 13 ∨ b = 14 ∨ b = 15)) → ¬ (a = 1 ∧ b = 19) → M' a b = M a b) : eqc M M' := by
  refine ⟨?_, ?_, ?_, h 0 3 (by omega) (by omega), h 0 4 (by omega) (by omega), fun k h1 h2 => h 1 k (by omega) (by omega), h 1 22 (by omega) (by omega), h 1 23 (by omega) (by omega)⟩
  · funext k; exact h 2 k (by omega) (by omega)
  · funext k; exact h 4 k (by omega) (by omega)
  · funext k; exact h 5 k (by omega) (by omega)
theorem op_hold {L : Nat → Bool} {M : am_M} (h : Inv L M) (a b c : Int32) : opk L (fX0_hold M a b c) (fun M1 => fX2_hold M1 a b c) := by
  have bad0 : am_it (fX0_hold_L43 a b) am_fuel ((0 : Int32), (0 : Int32), M) = some ((0 : Int32), (0 : Int32), M) := by
    refine it_run0 (F := fX0_hold_L43 a b) (fun _ => ((0 : Int32), (0 : Int32), M)) 0 (by omega) (fun i hi => by omega) (fun rec => ?_)
    unfold fX0_hold_L43
    simp only [if_neg (show ¬ (3 : Int32) ≤ 0 by decide), if_pos]
  have r2 : ∀ M1 : am_M, (fX2_in a 111 999 = 0 ∨ fX2_in b 0 999 = 0 ∨ fX2_in c 0 1 = 0) → fX2_hold M1 a b c = some (-2, M1) := fun M1 z => by
    unfold fX2_hold
    by_cases z1 : fX2_in a 111 999 = 0
    · rw [if_pos z1]
    · rw [if_neg z1]
      by_cases z2 : jv_rem a 10 = 0
      · rw [if_pos z2]
      · rw [if_neg z2]
        by_cases z3 : jv_rem (a / 10) 10 = 0
        · rw [if_pos z3]
        · rw [if_neg z3]
          by_cases z4 : fX2_in b 0 999 = 0
          · rw [if_pos z4]
          · rw [if_neg z4]
            by_cases z5 : fX2_in c 0 1 = 0
            · rw [if_pos z5]
            · rcases z with z | z | z
              · exact absurd z z1
              · exact absurd z z4
              · exact absurd z z5
  by_cases g1 : fX2_in a 111 999 = 0
  · refine op_same h (-2) ?_ (r2 M (Or.inl g1))
    unfold fX0_hold
    rw [in_111_999, if_pos g1, Option.bind_some, bad0, Option.bind_some, if_pos rfl]
  by_cases g2 : fX2_in b 0 999 = 0
  · refine op_same h (-2) ?_ (r2 M (Or.inr (Or.inl g2)))
    unfold fX0_hold
    rw [in_111_999, if_neg g1, in_0_999, if_pos g2, Option.bind_some, bad0, Option.bind_some, if_pos rfl]
  by_cases g3 : fX2_in c 0 1 = 0
  · refine op_same h (-2) ?_ (r2 M (Or.inr (Or.inr g3)))
    unfold fX0_hold
    rw [in_111_999, if_neg g1, in_0_999, if_neg g2, isEnd_in, if_pos g3, Option.bind_some, bad0, Option.bind_some, if_pos rfl]
  obtain ⟨q1, q2⟩ := in_ok g1
  obtain ⟨S, hS, rfl⟩ := nI_of2 (x := a) (M := 999) (n := 999) (by decide) (Int32.not_lt.mpr (Int32.le_trans (by decide) q1)) q2
  have hS1 : 111 ≤ S := (nI_leI (a := 111) (b := S) (by omega) (by omega)).mp q1
  obtain ⟨Q, hQ, rfl⟩ := in_n (n := 999) (by omega) g2
  have hS9 : S < 1000 := by omega
  have hQ9 : Q < 1000 := by omega
  obtain ⟨x, i, M1, e1, f1, hx⟩ := dig_loop hS9 hQ9 3 0 M (by omega) (fun k hk => by omega) am_fuel (by decide)
  have e1' : am_it (fX0_hold_L43 (nI S) (nI Q)) am_fuel ((1 : Int32), (0 : Int32), M) = some (x, i, M1) := e1
  have m2 : jv_rem (nI S) 10 = nI (S % 10) := pk_rem (a := S) (d := 10) (by omega) (by omega) (by omega)
  have d10 : nI S / 10 = nI (S / 10) := pk_div (a := S) (d := 10) (by omega) (by omega) (by omega)
  have m1 : jv_rem (nI (S / 10)) 10 = nI (S / 10 % 10) := pk_rem (a := S / 10) (d := 10) (by omega) (by omega) (by omega)
  rcases hx with ⟨rfl, hM1, hs⟩ | ⟨rfl, k, hk, hd⟩
  · obtain ⟨M2, e2, f2, z2⟩ := fill_13 M1
    have hs' : ∀ k, k < 3 → 1 ≤ dg S k := fun k hk => hs k (by omega) hk
    have hcv : cv M2 (fun _ => 0) := fun r hr => ⟨z2 r hr, Nat.zero_le _⟩
    obtain ⟨M3, v, e3, hv, f3, hf⟩ := hold_loop (s := dg S) (R := dg Q) (fun k => dg_lt hS9 k) (fun k => dg_lt hQ9 k) 99000 (fun _ => 0) M2 (by omega) (sR_fr hM1 f2) hcv (fun r hr => Or.inl rfl) am_fuel (by decide)
    have hM3 := sR_fr (sR_fr hM1 f2) f3
    have hX : ∀ k, k < 3 → bt (dg S) (dg Q) v 0 k ≤ v 0 ∧ 1 ≤ bt (dg S) (dg Q) v 0 k := fun k hk => by
      refine ⟨(hf.1 0 (by omega)).2 k hk, ?_⟩
      have := hs' k hk
      rw [show bt (dg S) (dg Q) v 0 k = min 99 (dg S k + v (tT (dg S) (dg Q) 0 k)) from if_pos (dg_0 k)]
      omega
    obtain ⟨b1, b2, b3, b4⟩ := best_ok hX (hf.2 0 (by omega))
    have ef := first_eq hM3 (fun k => dg_lt hS9 k) (fun k => dg_lt hQ9 k) hv 0 b2 b3 b4
    obtain ⟨M4, e4, f4⟩ := best_loop hS9 hQ9 hs' hf 3 0 M3 (by omega) am_fuel (by decide)
    have e4' : am_it (fX2_hold_L61 (nI S) (nI Q)) am_fuel ((0 : Int32), (0 : Int32), (0 : Int32), M3) = _ := e4
    have n2 : ¬ jv_rem (nI S) 10 = 0 := by
      have := hs' 2 (by omega)
      rw [m2, show (0 : Int32) = nI 0 from rfl, lit_eq (by omega) (by omega)]
      have : dg S 2 = S % 10 := rfl
      omega
    have n1 : ¬ jv_rem (nI S / 10) 10 = 0 := by
      have := hs' 1 (by omega)
      rw [d10, m1, show (0 : Int32) = nI 0 from rfl, lit_eq (by omega) (by omega)]
      have : dg S 1 = S / 10 % 10 := rfl
      omega
    refine ⟨if c = 0 then nI (v 0) else nI (fo (bsP (bt (dg S) (dg Q) v 0)) (0, 0) 3).2, M3, M4, ?_, ?_, Inv_eqc h (eqc_h0 (fun o k h1 h2 => ?_))⟩
    · unfold fX0_hold
      rw [in_111_999, if_neg g1, in_0_999, if_neg g2, isEnd_in, if_neg g3, Option.bind_some, e1', Option.bind_some, if_neg (show ¬ (1 : Int32) = 0 by decide), e2, Option.bind_some, e3, Option.bind_some, ef, Option.bind_some]
      by_cases z : c = 0
      · rw [if_pos z, if_pos z, show (0 : Int32) = nI 0 from rfl, rd1k (by omega), Option.bind_some]
        show some (M3 0 13 0, M3) = _
        rw [(hv 0 (by omega)).1]
      · rw [if_neg z, if_neg z]
    · show fX2_hold M3 (nI S) (nI Q) c = _
      unfold fX2_hold
      rw [if_neg g1, if_neg n2, if_neg n1, if_neg g2, if_neg g3, e4', Option.bind_some, b1]
      by_cases z : c = 0
      · rw [if_pos z, if_pos z]
      · rw [if_neg z, if_neg z]
    · rw [f4 o k h2, f3 o k (by omega), f2 o k (by omega), f1 o k (by omega)]
  · refine ⟨-2, M1, M1, ?_, ?_, Inv_eqc h (eqc_h0 (fun o k h1 h2 => f1 o k (by omega)))⟩
    · unfold fX0_hold
      rw [in_111_999, if_neg g1, in_0_999, if_neg g2, isEnd_in, if_neg g3, Option.bind_some, e1', Option.bind_some, if_pos rfl]
    · show fX2_hold M1 (nI S) (nI Q) c = _
      unfold fX2_hold
      rw [if_neg g1]
      by_cases z2 : jv_rem (nI S) 10 = 0
      · rw [if_pos z2]
      · rw [if_neg z2]
        by_cases z3 : jv_rem (nI S / 10) 10 = 0
        · rw [if_pos z3]
        · exfalso
          rw [m2, show (0 : Int32) = nI 0 from rfl, lit_eq (by omega) (by omega)] at z2
          rw [d10, m1, show (0 : Int32) = nI 0 from rfl, lit_eq (by omega) (by omega)] at z3
          have := dg_all hS1 z2 z3 k hk
          omega
