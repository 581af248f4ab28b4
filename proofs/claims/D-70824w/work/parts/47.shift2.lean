/-! SHIFTS: the loops over all acts -/
set_option maxRecDepth 100000
def drk (u : Nat → Nat → Int32) (x : Nat) : Nat → Nat → Int32 := if 0 ≤ u 13 0 ∨ x = 0 then u else va_up (va_up u 13 (va_up (u 13) 0 (u 17 0))) 14 (va_up (u 14) 0 (nI (lsb x)))
def drO (o : Nat → Nat → Int32) (x j : Nat) : Nat → Nat → Int32 := if 0 ≤ o 11 0 ∨ x = 0 then o else va_up (va_up o 11 (va_up (o 11) 0 (nI j))) 12 (va_up (o 12) 0 (nI (lsb x)))
theorem dark_eq {M : am_M} {u : Nat → Nat → Int32} {x j : Nat} {s1 : Int32 × Int32 × am_M} {v2 : Int32} (hx : x < 1024) (hg : s1.2.1 &&& (v2 ^^^ (-1 : Int32)) = nI x) (h17 : u 17 0 = nI j) (hj : j < 1000) : ∃ z, am_it (fX2_goShifts_L201 s1 v2) am_fuel ((0 : Int32), va_up M 1 u) = some (z, va_up M 1 (drk u x)) := by
  unfold drk
  by_cases h13 : 0 ≤ u 13 0
  · rw [if_pos (Or.inl h13)]
    refine ⟨nI 0, it_run0 (fun _ => (nI 0, va_up M 1 u)) 0 (by omega) (fun i hi => absurd hi (by omega)) (fun rec => ?_)⟩
    unfold fX2_goShifts_L201
    simp only [if_neg (n10 (show 0 < 10 by omega)), sm_at, if_pos h13]
  · have stp : ∀ i, i < 10 → ∀ rec, fX2_goShifts_L201 s1 v2 rec (nI i, va_up M 1 u) = if x.testBit i = true then rec (nI (i + 1), va_up M 1 (va_up (va_up u 13 (va_up (u 13) 0 (u 17 0))) 14 (va_up (u 14) 0 (nI i)))) else rec (nI (i + 1), va_up M 1 u) := by
      intro i hi rec
      unfold fX2_goShifts_L201
      simp only [if_neg (n10 hi), sm_at, if_neg h13, hg, has_b1, hb_bit (show x < 2 ^ 31 by omega) (show i < 31 by omega), ite_b1, sm_put, nI_add1]
      have e : va_up u 13 (va_up (u 13) 0 (u 17 0)) 14 = u 14 := rfl
      cases x.testBit i with
      | true => simp only [if_true, Option.bind_some, e]
      | false => simp only [Bool.false_eq_true, if_false, Option.bind_some]
    by_cases h0 : x = 0
    · rw [if_pos (Or.inr h0)]
      subst h0
      refine ⟨nI 10, it_run0 (fun i => (nI i, va_up M 1 u)) 10 (by omega) (fun i hi rec => ?_) (fun rec => ?_)⟩
      · rw [stp i hi, Nat.zero_testBit]
        rfl
      · unfold fX2_goShifts_L201
        simp only [if_pos p10]
    · rw [if_neg (by rintro (z | z); exact h13 z; exact h0 z)]
      obtain ⟨-, l1, l2, l3⟩ := lsb_ok (show 0 < x by omega) hx
      refine ⟨nI (lsb x + 1), it_run0 (fun i => (nI i, va_up M 1 (if i ≤ lsb x then u else va_up (va_up u 13 (va_up (u 13) 0 (u 17 0))) 14 (va_up (u 14) 0 (nI (lsb x)))))) (lsb x + 1) (by omega) (fun i hi rec => ?_) (fun rec => ?_)⟩
      · rw [if_pos (show i ≤ lsb x by omega), stp i (by omega)]
        by_cases e : i = lsb x
        · subst e
          rw [l2, if_pos rfl, if_neg (by omega)]
        · rw [l3 i (by omega), if_neg (by simp), if_pos (by omega)]
      · rw [if_neg (by omega)]
        unfold fX2_goShifts_L201
        have e13 : va_up (va_up u 13 (va_up (u 13) 0 (u 17 0))) 14 (va_up (u 14) 0 (nI (lsb x))) 13 0 = nI j := h17
        simp only [sm_at, e13, if_pos (nI_pos' (show j < 2 ^ 31 by omega))]
        by_cases z : (10 : Int32) ≤ nI (lsb x + 1)
        · rw [if_pos z]
        · rw [if_neg z]
theorem tokM_16 {u : Nat → Nat → Int32} {t : Nat → Nat → Int32} (h : rel t (nowv u)) : rel t (nowv (va_up u 16 (va_up (u 16) 0 0))) := rel_cg (fun k hk _ => by
  have : ¬ k = 16 := by omega
  unfold nowv
  by_cases e : k = 0
  · subst e; rfl
  · simp [va_up, e, this]) h
/-- what goes with both loops at act j -/
def gst (c : Nat → Nat) (s n : Nat) (o t u : Nat → Nat → Int32) (j : Nat) : Prop := o 8 0 = nI n ∧ tks c o n ∧ wf t ∧ rel t (nowv u) ∧ u 11 0 = nI s ∧ (∀ i, i < s → u 12 i = nI (c i)) ∧ u 17 0 = nI j ∧ o 11 0 = u 13 0 ∧ o 12 0 = u 14 0
/-- the reference's fields that a shift leaves -/
def kps (u u' : Nat → Nat → Int32) : Prop := ∀ f, f ≠ 1 → ¬ (13 ≤ f ∧ f ≤ 17) → u' f = u f
def kpo (o o' : Nat → Nat → Int32) : Prop := ∀ f, f ≠ 10 → f ≠ 11 → f ≠ 12 → o' f = o f
theorem kps_rf (u : Nat → Nat → Int32) : kps u u := fun _ _ _ => rfl
theorem kps_tr {a b d : Nat → Nat → Int32} (h1 : kps a b) (h2 : kps b d) : kps a d := fun f p q => (h2 f p q).trans (h1 f p q)
theorem kps_k {a b : Nat → Nat → Int32} (h : kpu a b) : kps a b := fun f p q => h f p (by omega)
theorem kps_u {u : Nat → Nat → Int32} {f : Nat} {A : Nat → Int32} (hf : 13 ≤ f ∧ f ≤ 17) : kps u (va_up u f A) := fun g p q => by
  have : ¬ g = f := by omega
  simp [va_up, this]
theorem kps_d (u : Nat → Nat → Int32) (x : Nat) : kps u (drk u x) := by
  unfold drk
  split
  · exact kps_rf u
  · exact kps_tr (kps_u (by omega)) (kps_u (by omega))
theorem kpo_d (o : Nat → Nat → Int32) (x j : Nat) : kpo o (drO o x j) := by
  unfold drO
  split
  · exact fun _ _ _ _ => rfl
  · intro f h1 h2 h3
    simp [va_up, h2, h3]
theorem rel_kps {t u u' : Nat → Nat → Int32} (h : rel t (nowv u)) (hk : kps u u') (h1 : u' 1 = u 1) : rel t (nowv u') := rel_cg (fun k hk2 hk1 => by
  unfold nowv
  by_cases e : k = 0
  · subst e; simp [va_up, h1]
  · simp only [va_up, e, if_false]
    exact hk k hk1 (by omega)) h
theorem tks_o {c : Nat → Nat} {o o' : Nat → Nat → Int32} {n : Nat} (h : tks c o n) (hk : kpo o o') : tks c o' n := by
  intro j hj
  rw [hk 5 (by omega) (by omega) (by omega), hk 6 (by omega) (by omega) (by omega), hk 7 (by omega) (by omega) (by omega)]
  exact h j hj
theorem shifts_loop {M : am_M} {c : Nat → Nat} {s n : Nat} (hs : s ≤ 60) (hq : tq c n = s) (hcc : ∀ i, i < s → 33 ≤ c i ∧ c i ≤ 126) : ∀ (k j : Nat) (o t u : Nat → Nat → Int32), j + k = n → gst c s n o t u j → ∀ f, k < f →
    (∃ o' t' u' z1 z2, am_it fX0_go_L31 f (nI j, mem2 M o t) = some (.inr (nI n, mem2 M o' t')) ∧ (∀ N, am_it fX2_goShifts_L16 f (nI (tq c j), lamp t, va_up N 1 u) = some (.inr (z1, z2, va_up N 1 u'))) ∧ gst c s n o' t' u' n ∧ kps u u' ∧ kpo o o' ∧ o' 10 = o 10) ∨
    (∃ o' t' u' b w, b < 60 ∧ 0 < w ∧ am_it fX0_go_L31 f (nI j, mem2 M o t) = some (.inl (nI b, mem2 M o' t')) ∧ (∀ N, am_it fX2_goShifts_L16 f (nI (tq c j), lamp t, va_up N 1 u) = some (.inl (nI b, va_up N 1 u'))) ∧ o' 10 0 = w ∧ u' 16 0 = w ∧ kps u u' ∧ kpo o o') := by
  have hmono : ∀ a b, a ≤ b → tq c a ≤ tq c b := by
    intro a b hab
    induction hab with
    | refl => exact Nat.le_refl _
    | step _ ih => exact Nat.le_trans ih (Nat.le_add_right _ _)
  have hn60 : n ≤ 60 := by have := tq_ge c n; omega
  intro k
  induction k with
  | zero =>
    intro j o t u hj hg f hf
    obtain ⟨f, rfl⟩ : ∃ g, f = g + 1 := ⟨f - 1, by omega⟩
    have e : j = n := by omega
    subst e
    refine Or.inl ⟨o, t, u, nI (tq c j), lamp t, ?_, ?_, hg, kps_rf u, fun _ _ _ _ => rfl, rfl⟩
    · show fX0_go_L31 (am_it fX0_go_L31 f) _ = _
      unfold fX0_go_L31
      simp only [m2_0, hg.1]
      rw [if_pos (Int32.le_refl _)]
    · intro N
      show fX2_goShifts_L16 (am_it fX2_goShifts_L16 f) _ = _
      unfold fX2_goShifts_L16
      simp only [sm_at, hg.2.2.2.2.1, hq]
      rw [if_pos (Int32.le_refl _)]
  | succ k ih =>
    intro j o t u hj hg f hf
    obtain ⟨f, rfl⟩ : ∃ g, f = g + 1 := ⟨f - 1, by omega⟩
    have hjn : j < n := by omega
    obtain ⟨g1, g2, g3, g4, g5, g6, g7, g8, g9⟩ := hg
    obtain ⟨k1, k2, k3, k4⟩ := g2 j hjn
    have hpn : tq c j + tl c (tq c j) ≤ s := by
      have := hmono (j + 1) n (by omega)
      rw [hq] at this
      exact this
    have hp1 := tl_pos c (tq c j)
    have nle1 : ¬ nI n ≤ nI j := nI_ge hjn (by omega)
    have nle2 : ¬ nI s ≤ nI (tq c j) := nI_ge (by omega) (by omega)
    have hrel16 := tokM_16 g4
    obtain ⟨w, hw, hcase⟩ := tok_act k1 g3 hrel16
    have hC : am_it fX0_go_L31 (f + 1) (nI j, mem2 M o t) = if w ≤ 0 then (Option.bind (fX1_happen (mem2 M o t) 1 (nI (tAct c (tq c j))) (nI (tWho c (tq c j))) (nI (tWhat c (tq c j)))) fun M11 => Option.bind (fX1_lamps (M11 3)) fun v12 => Option.bind (if (lamp t &&& (v12 ^^^ (-1 : Int32))) = 0 then some M11 else (if 0 ≤ (M11 0 11 0) then some M11 else (Option.bind (fJ0_numberOfTrailingZeros (lamp t &&& (v12 ^^^ (-1 : Int32)))) fun v13 => some (am_put (am_put M11 0 11 (nI j)) 0 12 v13)))) fun x14 => am_it fX0_go_L31 f (nI (j + 1), x14)) else some (.inl (nI j, am_put (mem2 M o t) 0 10 w)) := by
      show fX0_go_L31 (am_it fX0_go_L31 f) _ = _
      rw [fX0_go_L31]
      simp only [m2_0, m2_3, g1, if_neg nle1, rd60 (show j < 60 by omega), Option.bind_some, k2, k3, k4, hw, lamps_eq, nI_add1]
    have hMd0 : ∀ N, am_it fX2_goShifts_L16 (f + 1) (nI (tq c j), lamp t, va_up N 1 u) = Option.bind (stepM (nI (tq c j)) (va_up N 1 u)) fun x15 => (if ((x15.2) 1 16 0) ≤ 0 then (Option.bind (fX2_lamps ((x15.2) 1)) fun v16 => (Option.bind (am_it (fX2_goShifts_L201 (nI (tq c j), lamp t, va_up N 1 u) v16) am_fuel ((0 : Int32), x15.2)) fun (s17 : (Int32 × am_M)) => am_it fX2_goShifts_L16 f (x15.1, v16, (am_put s17.2 1 17 (((s17.2) 1 17 0) + (1 : Int32)))))) else some (.inl (((x15.2) 1 17 0), x15.2))) := by
      intro N
      show fX2_goShifts_L16 (am_it fX2_goShifts_L16 f) _ = _
      rw [fX2_goShifts_L16]
      unfold stepM
      simp only [sm_at, g5, if_neg nle2, Option.bind_assoc]
    rcases hcase with ⟨rfl, t', u', h1, h2, h3, h4, h5⟩ | ⟨hpos, h2⟩
    · -- the act can be
      obtain ⟨u1, hu1⟩ : ∃ u1, u1 = va_up u' 16 (va_up (u' 16) 0 0) := ⟨_, rfl⟩
      have e16 : u1 16 0 = 0 := by rw [hu1]; rfl
      have hk1 : kps u u1 := by
        rw [hu1]
        exact kps_tr (kps_tr (kps_u (by omega)) (kps_k h5)) (kps_u (by omega))
      have r1 : rel t' (nowv u1) := rel_kps h4 (by rw [hu1]; exact kps_u (by omega)) (by rw [hu1]; rfl)
      have e17 : u1 17 0 = nI j := by
        rw [hu1]
        show u' 17 0 = _
        rw [h5 17 (by omega) (by omega)]
        exact g7
      have e13 : u1 13 0 = o 11 0 := by
        rw [hu1]
        show u' 13 0 = _
        rw [h5 13 (by omega) (by omega)]
        exact g8.symm
      have e14 : u1 14 0 = o 12 0 := by
        rw [hu1]
        show u' 14 0 = _
        rw [h5 14 (by omega) (by omega)]
        exact g9.symm
      obtain ⟨la, lb⟩ := lamp_set t
      obtain ⟨la', lb'⟩ := lamp_set t'
      have hx : dif (lset t) (lset t') < 1024 := Nat.lt_of_le_of_lt dif_le lb
      have hgone : lamp t &&& (lamp t' ^^^ (-1 : Int32)) = nI (dif (lset t) (lset t')) := by
        rw [la, la', nI_dif (by omega) (by omega)]
      obtain ⟨u2, hu2⟩ : ∃ u2, u2 = drk u1 (dif (lset t) (lset t')) := ⟨_, rfl⟩
      have e17' : u2 17 0 = nI j := by
        rw [hu2]
        unfold drk
        split
        · exact e17
        · exact e17
      have hMd : ∀ N, am_it fX2_goShifts_L16 (f + 1) (nI (tq c j), lamp t, va_up N 1 u) = am_it fX2_goShifts_L16 f (nI (tq c (j + 1)), lamp t', va_up N 1 (va_up u2 17 (va_up (u2 17) 0 (nI (j + 1))))) := by
        intro N
        have hst := step_eq (M := N) hs k1 hpn (fun i hi => ⟨(hcc i hi).1, (hcc i hi).2, g6 i hi⟩) h2 (fun _ => h5 16 (by omega) (by omega))
        rw [hMd0 N, hst, Option.bind_some, ← hu1]
        simp only [sm_at, e16]
        rw [if_pos (Int32.le_refl _), lampsM_eq h3 r1, Option.bind_some]
        obtain ⟨z, hz⟩ := dark_eq (M := N) (s1 := (nI (tq c j), lamp t, va_up N 1 u)) hx hgone e17 (by omega)
        rw [hz, Option.bind_some, ← hu2]
        simp only [sm_at, sm_put, e17', nI_1]
        rfl
      rw [if_pos (Int32.le_refl _)] at hC
      have hh := h1 (va_up M 0 o)
      rw [show fX1_happen (mem2 M o t) 1 _ _ _ = some (mem2 M o t') from hh, Option.bind_some] at hC
      simp only [m2_0, m2_3, lamps_eq, Option.bind_some, hgone] at hC
      have hdo : (if nI (dif (lset t) (lset t')) = 0 then some (mem2 M o t') else if 0 ≤ o 11 0 then some (mem2 M o t') else Option.bind (fJ0_numberOfTrailingZeros (nI (dif (lset t) (lset t')))) fun v13 => some (am_put (am_put (mem2 M o t') 0 11 (nI j)) 0 12 v13)) = some (mem2 M (drO o (dif (lset t) (lset t')) j) t') := by
        unfold drO
        by_cases z0 : dif (lset t) (lset t') = 0
        · rw [z0, if_pos nI_0, if_pos (Or.inr rfl)]
        · rw [if_neg (nI_ne0 (by omega) (by omega))]
          by_cases z1 : 0 ≤ o 11 0
          · rw [if_pos z1, if_pos (Or.inl z1)]
          · rw [if_neg z1, if_neg (by rintro (q | q); exact z1 q; exact z0 q), (lsb_ok (by omega) hx).1, Option.bind_some, m2_put, m2_put]
            rfl
      rw [hdo, Option.bind_some] at hC
      rw [hC]
      simp only [hMd]
      have hk2 : kps u (va_up u2 17 (va_up (u2 17) 0 (nI (j + 1)))) := by
        refine kps_tr (kps_tr hk1 ?_) (kps_u (by omega))
        rw [hu2]
        exact kps_d _ _
      have r2 : rel t' (nowv (va_up u2 17 (va_up (u2 17) 0 (nI (j + 1))))) := by
        refine rel_kps r1 (kps_tr (by rw [hu2]; exact kps_d _ _) (kps_u (by omega))) ?_
        show u2 1 = u1 1
        rw [hu2]
        unfold drk
        split <;> rfl
      have hgst : gst c s n (drO o (dif (lset t) (lset t')) j) t' (va_up u2 17 (va_up (u2 17) 0 (nI (j + 1)))) (j + 1) := by
        refine ⟨?_, tks_o g2 (kpo_d _ _ _), h3, r2, ?_, fun i hi => ?_, rfl, ?_, ?_⟩
        · rw [kpo_d o _ _ 8 (by omega) (by omega) (by omega)]; exact g1
        · rw [hk2 11 (by omega) (by omega)]; exact g5
        · rw [hk2 12 (by omega) (by omega)]; exact g6 i hi
        · show _ = u2 13 0
          rw [hu2]
          unfold drO drk
          rw [e13]
          split
          · exact e13.symm
          · show nI j = u1 17 0
            exact e17.symm
        · show _ = u2 14 0
          rw [hu2]
          unfold drO drk
          rw [e13]
          split
          · exact e14.symm
          · rfl
      have e10 : drO o (dif (lset t) (lset t')) j 10 = o 10 := by
        unfold drO
        split <;> rfl
      rcases ih (j + 1) _ t' _ (by omega) hgst f (by omega) with ⟨o', t'', u'', z1, z2, q1, q2, q3, q4, q5, q6⟩ | ⟨o', t'', u'', b, w, hb, hw0, q1, q2, q3, q4, q5, q6⟩
      · exact Or.inl ⟨o', t'', u'', z1, z2, q1, q2, q3, kps_tr hk2 q4, fun f a b d => (q5 f a b d).trans (kpo_d _ _ _ f a b d), q6.trans e10⟩
      · exact Or.inr ⟨o', t'', u'', b, w, hb, hw0, q1, q2, q3, q4, kps_tr hk2 q5, fun f a b d => (q6 f a b d).trans (kpo_d _ _ _ f a b d)⟩
    · -- it can't be
      have nle : ¬ w ≤ 0 := Int32.not_le.mpr hpos
      have e16 : va_up (va_up u 16 (va_up (u 16) 0 0)) 16 (va_up (va_up u 16 (va_up (u 16) 0 0) 16) 0 w) 16 0 = w := rfl
      have e17 : va_up (va_up u 16 (va_up (u 16) 0 0)) 16 (va_up (va_up u 16 (va_up (u 16) 0 0) 16) 0 w) 17 0 = nI j := g7
      have hMd : ∀ N, am_it fX2_goShifts_L16 (f + 1) (nI (tq c j), lamp t, va_up N 1 u) = some (.inl (nI j, va_up N 1 (va_up (va_up u 16 (va_up (u 16) 0 0)) 16 (va_up (va_up u 16 (va_up (u 16) 0 0) 16) 0 w)))) := by
        intro N
        have hst := step_eq (M := N) (w := w) (u' := va_up u 16 (va_up (u 16) 0 0)) hs k1 hpn (fun i hi => ⟨(hcc i hi).1, (hcc i hi).2, g6 i hi⟩) h2 (fun _ => rfl)
        rw [hMd0 N, hst, Option.bind_some]
        simp only [sm_at, e16, e17]
        rw [if_neg nle]
      rw [if_neg nle, m2_put] at hC
      refine Or.inr ⟨_, t, _, j, w, by omega, hpos, hC, hMd, rfl, rfl, kps_tr (kps_u (by omega)) (kps_u (by omega)), fun f h1 h2 h3 => ?_⟩
      simp [va_up, h1]
