/-! OPERATIONS on shifts: judge, done, behind, seam, then -/
set_option maxRecDepth 100000
theorem asn_form (N : am_M) : asnM N = va_up N 1 (asnM N 1) := by
  funext a
  by_cases h : a = 1
  · subst h; rw [sm_at]
  · rw [sm_ne h]
    simp [asnM, asn, am_put, am_up, va_up, h]
theorem asn_kps (N : am_M) : kps (N 1) (asnM N 1) := by
  intro f h1 h2
  have h13 : ¬ f = 13 := by omega
  have h14 : ¬ f = 14 := by omega
  simp [asnM, asn, am_put, am_up, va_up, h1, h13, h14]
theorem eqc_1 {N : am_M} {u' : Nat → Nat → Int32} (h : kps (N 1) u') : eqc N (va_up N 1 u') := ⟨sm_ne (by decide), sm_ne (by decide), sm_ne (by decide), by rw [sm_ne (by decide)], by rw [sm_ne (by decide)], fun k h1 h2 => by rw [sm_at]; exact h k h2 (by omega), by rw [sm_at]; exact h 22 (by omega) (by omega), by rw [sm_at]; exact h 23 (by omega) (by omega)⟩
theorem eqc_m2 {M : am_M} {o t : Nat → Nat → Int32} (h3 : o 3 = M 0 3) (h4 : o 4 = M 0 4) : eqc M (mem2 M o t) := by
  have e : ∀ a, ¬ a = 0 → ¬ a = 3 → mem2 M o t a = M a := fun a h0 h3 => by unfold mem2; rw [sm_ne h3, sm_ne h0]
  exact ⟨e 2 (by omega) (by omega), e 4 (by omega) (by omega), e 5 (by omega) (by omega), by rw [m2_0]; exact h3, by rw [m2_0]; exact h4, fun k _ _ => by rw [e 1 (by omega) (by omega)], by rw [e 1 (by omega) (by omega)], by rw [e 1 (by omega) (by omega)]⟩
/-- the shifts of a text without fault, in both systems -/
theorem shifts_eq {L : Nat → Bool} {M : am_M} (h : Inv L M) {c : Nat → Nat} {s n : Nat} {o' : Nat → Nat → Int32} (hs : s ≤ 60) (e11 : M 1 11 0 = nI s) (hc : ∀ i, i < s → 33 ≤ c i ∧ c i ≤ 126 ∧ M 1 12 i = nI (c i)) (k3 : o' 3 = M 0 3) (k4 : o' 4 = M 0 4) (hp : parsed c s o' n) :
    (∃ o2 t2 u2, fX0_go (va_up M 0 o') = some (-6, mem2 M o2 t2) ∧ (∀ N : am_M, N 1 = M 1 → fX2_goShifts N = some (-6, va_up N 1 u2)) ∧ o2 3 = M 0 3 ∧ o2 4 = M 0 4 ∧ kps (M 1) u2 ∧ wf t2 ∧ rel t2 (nowv u2) ∧ o2 8 0 = nI n ∧ u2 17 0 = nI n ∧ o2 11 0 = u2 13 0 ∧ o2 12 0 = u2 14 0 ∧ o2 10 0 = -6) ∨
    (∃ o2 t2 u2 b w, b < 60 ∧ 0 < w ∧ fX0_go (va_up M 0 o') = some (nI b, mem2 M o2 t2) ∧ fX2_goShifts (mem2 M o2 t2) = some (nI b, va_up (mem2 M o2 t2) 1 u2) ∧ o2 3 = M 0 3 ∧ o2 4 = M 0 4 ∧ kps (M 1) u2 ∧ o2 10 0 = w ∧ u2 16 0 = w) := by
  obtain ⟨hw, hr, -, -⟩ := h
  obtain ⟨p8, pt, pq⟩ := hp
  obtain ⟨o1, ho1⟩ : ∃ o1, o1 = va_up (va_up (va_up o' 10 (va_up (o' 10) 0 (-6))) 11 (va_up (o' 11) 0 (-6))) 12 (va_up (o' 12) 0 (-6)) := ⟨_, rfl⟩
  have hgo : fX0_go (va_up M 0 o') = Option.bind (am_it fX0_go_L31 am_fuel (nI 0, mem2 M o1 (tkR (M 2) (M 3)))) (Sum.elim some fun (s6 : (Int32 × am_M)) => some ((-6 : Int32), s6.2)) := by
    unfold fX0_go
    rw [take_eq (va_up M 0 o') (show ¬ 0 = 1 by omega), Option.bind_some]
    have e : va_up (va_up M 0 o') (1 + 2) (tkR (va_up M 0 o' (0 + 2)) (va_up M 0 o' (1 + 2))) = mem2 M o' (tkR (M 2) (M 3)) := rfl
    rw [e, m2_put, m2_put, m2_put, ho1]
    rfl
  have kpo1 : kpo o' o1 := by
    rw [ho1]
    intro f h1 h2 h3
    simp [va_up, h1, h2, h3]
  -- the reference, over any memory whose own record is M's
  obtain ⟨u1, hu1⟩ : ∃ u1, u1 = va_up (asnM M 1) 17 (va_up (asnM M 1 17) 0 0) := ⟨_, rfl⟩
  have r1 : rel (tkR (M 2) (M 3)) (nowv u1) := by
    rw [hu1]
    exact rel_kps (rel_take (asn_rel hr)) (kps_u (by omega)) rfl
  have m1 : kps (M 1) u1 := by
    rw [hu1]
    exact kps_tr (asn_kps M) (kps_u (by omega))
  have g1 : gst c s n o1 (tkR (M 2) (M 3)) u1 0 := by
    refine ⟨?_, tks_o pt kpo1, wf_take hw, r1, ?_, fun i hi => ?_, by rw [hu1]; rfl, ?_, ?_⟩
    · rw [kpo1 8 (by omega) (by omega) (by omega)]; exact p8
    · rw [m1 11 (by omega) (by omega)]; exact e11
    · rw [m1 12 (by omega) (by omega)]; exact (hc i hi).2.2
    · rw [ho1, hu1]; rfl
    · rw [ho1, hu1]; rfl
  have key : ∀ N : am_M, N 1 = M 1 → fX2_goShifts N = Option.bind (am_it fX2_goShifts_L16 am_fuel (nI (tq c 0), lamp (tkR (M 2) (M 3)), va_up N 1 u1)) (Sum.elim some fun (s7 : (Int32 × Int32 × am_M)) => some ((-6 : Int32), s7.2.2)) := by
    intro N hN
    have eN : asnM N 1 = asnM M 1 := by
      unfold asnM asn am_put am_up
      simp [va_up, hN]
    unfold fX2_goShifts
    rw [asNow_eq, Option.bind_some, asn_form N, eN, sm_put, ← hu1, sm_at, lampsM_eq (wf_take hw) r1]
    rfl
  have fin : ∀ {o2 : Nat → Nat → Int32}, kpo o1 o2 → o2 3 = M 0 3 ∧ o2 4 = M 0 4 := fun hk => by
    refine ⟨?_, ?_⟩
    · rw [hk 3 (by omega) (by omega) (by omega), kpo1 3 (by omega) (by omega) (by omega)]; exact k3
    · rw [hk 4 (by omega) (by omega) (by omega), kpo1 4 (by omega) (by omega) (by omega)]; exact k4
  have hn60 : n ≤ 60 := by have := tq_ge c n; omega
  rcases shifts_loop (M := M) hs pq (fun i hi => ⟨(hc i hi).1, (hc i hi).2.1⟩) n 0 o1 (tkR (M 2) (M 3)) u1 (by omega) g1 am_fuel (by show n < 100001; omega) with ⟨o2, t2, u2, z1, z2, a1, b2, b3, b4, b5, b6⟩ | ⟨o2, t2, u2, b, w, hb, hw0, a1, b2, b3, b4, b5, b6⟩
  · left
    refine ⟨o2, t2, u2, ?_, ?_, (fin b5).1, (fin b5).2, kps_tr m1 b4, b3.2.2.1, b3.2.2.2.1, b3.1, b3.2.2.2.2.2.2.1, b3.2.2.2.2.2.2.2.1, b3.2.2.2.2.2.2.2.2, ?_⟩
    · rw [hgo, a1]; rfl
    · intro N hN; rw [key N hN, b2]; rfl
    · rw [b6, ho1]; rfl
  · right
    refine ⟨o2, t2, u2, b, w, hb, hw0, ?_, ?_, (fin b6).1, (fin b6).2, kps_tr m1 b5, b3, b4⟩
    · rw [hgo, a1]; rfl
    · rw [key (mem2 M o2 t2) rfl, b2]; rfl
theorem op_judge {L : Nat → Bool} {M : am_M} (h : Inv L M) (a : Int32) : opk L (fX0_judge M a) (fun M1 => fX2_judge M1 a) := by
  by_cases ga : fX2_in a 0 1 = 0
  · refine op_same h (-2) ?_ ?_
    · unfold fX0_judge; rw [isEnd_in, if_pos ga]
    · show fX2_judge M a = _
      unfold fX2_judge; rw [if_pos ga]
  obtain ⟨c, s, o', r, hs, e11, hc, q1, q2, k3, k4, hr⟩ := fault_eq h
  rcases hr with ⟨rfl, n, hp⟩ | hr
  · rcases shifts_eq h hs e11 hc k3 k4 hp with ⟨o2, t2, u2, a1, a2, a3, a4, a5, -, -, -, -, -, -, a6⟩ | ⟨o2, t2, u2, b, w, hb, hw, a1, a2, a3, a4, a5, a6, a7⟩
    · have hM : fX2_faultOf (mem2 M o2 t2 1) = some (-6) := q2
      refine ⟨-6, mem2 M o2 t2, va_up (mem2 M o2 t2) 1 u2, ?_, ?_, Inv_eqc h (eqc_tr (eqc_m2 a3 a4) (eqc_1 a5))⟩
      · unfold fX0_judge
        rw [isEnd_in, if_neg ga, q1, Option.bind_some, if_pos (by show (-6 : Int32) < 0; decide)]
        dsimp only
        rw [a1, Option.bind_some]
        dsimp only
        rw [m2_0, a6]
        split <;> rfl
      · show fX2_judge _ a = _
        unfold fX2_judge
        rw [if_neg ga, hM, Option.bind_some, if_pos (by decide), a2 (mem2 M o2 t2) rfl, Option.bind_some]
        dsimp only
        rw [if_pos (by decide)]
    · have hM : fX2_faultOf (mem2 M o2 t2 1) = some (-6) := q2
      refine ⟨if a = 0 then nI b else w, mem2 M o2 t2, va_up (mem2 M o2 t2) 1 u2, ?_, ?_, Inv_eqc h (eqc_tr (eqc_m2 a3 a4) (eqc_1 a5))⟩
      · unfold fX0_judge
        rw [isEnd_in, if_neg ga, q1, Option.bind_some, if_pos (by show (-6 : Int32) < 0; decide)]
        dsimp only
        rw [a1, Option.bind_some]
        dsimp only
        rw [m2_0, a6]
        split <;> rfl
      · show fX2_judge _ a = _
        unfold fX2_judge
        rw [if_neg ga, hM, Option.bind_some, if_pos (by decide), a2, Option.bind_some]
        dsimp only
        rw [if_neg (nI_pos (by omega)), sm_at, a7]
        split <;> rfl
  · refine ⟨-5, va_up M 0 o', va_up M 0 o', ?_, ?_, Inv_eqc h (eqc_0 k3 k4)⟩
    · unfold fX0_judge
      rw [isEnd_in, if_neg ga, q1, Option.bind_some]
      dsimp only
      rw [if_neg (Int32.not_lt.mpr hr)]
    · show fX2_judge _ a = _
      unfold fX2_judge
      rw [if_neg ga, show fX2_faultOf (va_up M 0 o' 1) = some r from q2, Option.bind_some, if_neg (Int32.not_lt.mpr hr)]
/-- refused or not, in both systems -/
theorem refuse_eq {L : Nat → Bool} {M : am_M} (h : Inv L M) :
    (∃ M1 M2, fX0_isRefused M = some (1, M1) ∧ fX2_barOfShifts M1 = some (-5, M2) ∧ eqc M M2 ∧ M1 1 = M 1) ∨
    (∃ o2 t2 u2 n, fX0_isRefused M = some (0, mem2 M o2 t2) ∧ (∀ N : am_M, N 1 = M 1 → fX2_barOfShifts N = some (0, va_up N 1 u2)) ∧ o2 3 = M 0 3 ∧ o2 4 = M 0 4 ∧ kps (M 1) u2 ∧ wf t2 ∧ rel t2 (nowv u2) ∧ o2 8 0 = nI n ∧ u2 17 0 = nI n ∧ o2 11 0 = u2 13 0 ∧ o2 12 0 = u2 14 0) := by
  obtain ⟨c, s, o', r, hs, e11, hc, q1, q2, k3, k4, hr⟩ := fault_eq h
  rcases hr with ⟨rfl, n, hp⟩ | hr
  · rcases shifts_eq h hs e11 hc k3 k4 hp with ⟨o2, t2, u2, a1, a2, a3, a4, a5, a6, a7, a8, a9, a10, a11, -⟩ | ⟨o2, t2, u2, b, w, hb, hw, a1, a2, a3, a4, a5, a6, a7⟩
    · right
      refine ⟨o2, t2, u2, n, ?_, ?_, a3, a4, a5, a6, a7, a8, a9, a10, a11⟩
      · unfold fX0_isRefused
        rw [q1, Option.bind_some]
        dsimp only
        rw [if_neg (by decide), a1, Option.bind_some]
        dsimp only
        rw [if_pos (by decide)]
      · intro N hN
        unfold fX2_barOfShifts
        rw [hN, q2, Option.bind_some, if_neg (by decide), a2 N hN, Option.bind_some]
        dsimp only
        rw [if_pos (by decide)]
    · left
      refine ⟨mem2 M o2 t2, va_up (mem2 M o2 t2) 1 u2, ?_, ?_, eqc_tr (eqc_m2 a3 a4) (eqc_1 a5), rfl⟩
      · unfold fX0_isRefused
        rw [q1, Option.bind_some]
        dsimp only
        rw [if_neg (by decide), a1, Option.bind_some]
        dsimp only
        rw [if_neg (nI_pos (by omega))]
      · unfold fX2_barOfShifts
        rw [show fX2_faultOf (mem2 M o2 t2 1) = some (-6) from q2, Option.bind_some, if_neg (by decide), a2, Option.bind_some]
        dsimp only
        rw [if_neg (nI_pos (by omega))]
  · left
    refine ⟨va_up M 0 o', va_up M 0 o', ?_, ?_, eqc_0 k3 k4, rfl⟩
    · unfold fX0_isRefused
      rw [q1, Option.bind_some]
      dsimp only
      rw [if_pos hr]
    · unfold fX2_barOfShifts
      rw [show fX2_faultOf (va_up M 0 o' 1) = some r from q2, Option.bind_some, if_pos hr]
theorem in_2 {a : Int32} (h : ¬ fX2_in a 0 2 = 0) : a = 0 ∨ a = 1 ∨ a = 2 := by
  obtain ⟨j, hj, e⟩ := in_n (n := 2) (by omega) h
  rcases (show j = 0 ∨ j = 1 ∨ j = 2 by omega) with rfl | rfl | rfl
  · exact Or.inl e
  · exact Or.inr (Or.inl e)
  · exact Or.inr (Or.inr e)
theorem in_1 {a : Int32} (h : ¬ fX2_in a 0 1 = 0) : a = 0 ∨ a = 1 := by
  obtain ⟨j, hj, e⟩ := in_n (n := 1) (by omega) h
  rcases (show j = 0 ∨ j = 1 by omega) with rfl | rfl
  · exact Or.inl e
  · exact Or.inr e
theorem op_behind {L : Nat → Bool} {M : am_M} (h : Inv L M) (a b : Int32) : opk L (fX0_behind M a b) (fun M1 => fX2_behind M1 a b) := by
  have hh := here_in h a
  by_cases g1 : fX2_isThere (M 1) a = 0
  · refine op_same h (-1) ?_ ?_
    · unfold fX0_behind; rw [hh, if_pos g1]
    · show fX2_behind M a b = _
      unfold fX2_behind; rw [if_pos g1]
  by_cases g2 : fX2_in b 0 2 = 0
  · refine op_same h (-2) ?_ ?_
    · unfold fX0_behind; rw [hh, if_neg g1, in_0_2, if_pos g2]
    · show fX2_behind M a b = _
      unfold fX2_behind; rw [if_neg g1, if_pos g2]
  rcases refuse_eq h with ⟨M1, M2, a1, a2, a3, a4⟩ | ⟨o2, t2, u2, n, a1, a2, a3, a4, a5, a6, a7, a8, a9, a10, a11⟩
  · refine ⟨-5, M1, M2, ?_, ?_, Inv_eqc h a3⟩
    · unfold fX0_behind; rw [hh, if_neg g1, in_0_2, if_neg g2, a1, Option.bind_some]; dsimp only; rw [if_neg (by decide)]
    · show fX2_behind M1 a b = _
      unfold fX2_behind; rw [a4, if_neg g1, if_neg g2, a2, Option.bind_some]; dsimp only; rw [if_neg (by decide)]
  · obtain ⟨k, hk, rfl, hbk⟩ := there_ok g1
    obtain ⟨q1, q2, q3, q4, q5, q6⟩ := rel_now a7 hk
    have hb5 : hb (t2 5 0) (nI k) = true := by
      rw [← rel_there a7, a5 2 (by omega) (by omega)]; exact hbk
    have g1' : ¬ fX2_isThere (mem2 M o2 t2 1) (nI k) = 0 := g1
    refine ⟨if b = 0 then t2 11 k else if b = 1 then t2 9 k else t2 10 k, mem2 M o2 t2, va_up (mem2 M o2 t2) 1 u2, ?_, ?_, Inv_eqc h (eqc_tr (eqc_m2 a3 a4) (eqc_1 a5))⟩
    · unfold fX0_behind
      rw [hh, if_neg g1, in_0_2, if_neg g2, a1, Option.bind_some]
      dsimp only
      rw [if_pos rfl, m2_3, rd8 hk, rd8 hk, rd8 hk]
      split
      · rfl
      · split <;> rfl
    · show fX2_behind _ _ _ = _
      unfold fX2_behind
      rw [if_neg g1', if_neg g2, a2 (mem2 M o2 t2) rfl, Option.bind_some]
      dsimp only
      rw [if_pos (Int32.le_refl _), sm_at]
      rcases in_2 g2 with rfl | rfl | rfl
      · rw [show (8 : Int32) * 0 + nI k = nI k by rw [show (8 : Int32) * 0 = nI 0 from rfl, nI_add, Nat.zero_add], rd36 (by omega), q6 hb5]
        rfl
      · rw [show (8 : Int32) * 1 + nI k = nI (8 + k) by rw [show (8 : Int32) * 1 = nI 8 from rfl, nI_add], rd36 (by omega), q1]
        rfl
      · rw [show (8 : Int32) * 2 + nI k = nI (16 + k) by rw [show (8 : Int32) * 2 = nI 16 from rfl, nI_add], rd36 (by omega), q2]
        rfl
theorem op_seam {L : Nat → Bool} {M : am_M} (h : Inv L M) (a b : Int32) : opk L (fX0_seam M a b) (fun M1 => fX2_seam M1 a b) := by
  by_cases g1 : fX2_in a 0 9 = 0
  · refine op_same h (-1) ?_ ?_
    · unfold fX0_seam; rw [isGal_in, if_pos g1]
    · show fX2_seam M a b = _
      unfold fX2_seam; rw [isGal2_in, if_pos g1]
  by_cases g2 : fX2_in b 0 1 = 0
  · refine op_same h (-2) ?_ ?_
    · unfold fX0_seam; rw [isGal_in, if_neg g1, isEnd_in, if_pos g2]
    · show fX2_seam M a b = _
      unfold fX2_seam; rw [isGal2_in, if_neg g1, if_pos g2]
  rcases refuse_eq h with ⟨M1, M2, a1, a2, a3, a4⟩ | ⟨o2, t2, u2, n, a1, a2, a3, a4, a5, a6, a7, a8, a9, a10, a11⟩
  · refine ⟨-5, M1, M2, ?_, ?_, Inv_eqc h a3⟩
    · unfold fX0_seam; rw [isGal_in, if_neg g1, isEnd_in, if_neg g2, a1, Option.bind_some]; dsimp only; rw [if_neg (by decide)]
    · show fX2_seam M1 a b = _
      unfold fX2_seam; rw [isGal2_in, if_neg g1, if_neg g2, a2, Option.bind_some]; dsimp only; rw [if_neg (by decide)]
  · obtain ⟨g, hg, rfl⟩ := in_9 g1
    refine ⟨if b = 0 then lit t2 (nI g) else t2 2 g, mem2 M o2 t2, va_up (mem2 M o2 t2) 1 u2, ?_, ?_, Inv_eqc h (eqc_tr (eqc_m2 a3 a4) (eqc_1 a5))⟩
    · unfold fX0_seam
      rw [isGal_in, if_neg g1, isEnd_in, if_neg g2, a1, Option.bind_some]
      dsimp only
      rw [if_pos rfl, m2_3, light_eq, rd10 hg]
      split <;> rfl
    · show fX2_seam _ _ _ = _
      unfold fX2_seam
      rw [isGal2_in, if_neg g1, if_neg g2, a2 (mem2 M o2 t2) rfl, Option.bind_some]
      dsimp only
      rw [if_pos (Int32.le_refl _), sm_at, lightM_eq a6 a7 hg, show (24 : Int32) + nI g = nI (24 + g) from nI_add 24 g, rd36 (by omega), (rel_gal a7 hg).1]
      split <;> rfl
theorem coal_x1 (m : Nat → Nat → Int32) : fX1_coalInAll m = some (fo (fun g s => s + m 2 g) 0 10) := by
  unfold fX1_coalInAll
  rw [it_fo (F := fX1_coalInAll_L4 m) (fun g s => s + m 2 g) 0 10 (fun x => (x, nI 10)) (fun _ _ => True) (by omega) trivial (fun i x hi _ => ⟨fun rec => ?_, trivial⟩) (fun x _ rec => ?_)]
  · rfl
  · unfold fX1_coalInAll_L4
    simp only [if_neg (n10 hi), rd10 hi, Option.bind_some, nI_add1]
  · unfold fX1_coalInAll_L4
    simp only [if_pos p10]
theorem coal_x2 {m u : Nat → Nat → Int32} (h : rel m (nowv u)) : fX2_coal u = some (fo (fun g s => s + m 2 g) 0 10) := by
  unfold fX2_coal
  rw [it_fo (F := fX2_coal_L4 u) (fun g s => s + m 2 g) 0 10 (fun x => (x, nI 10)) (fun _ _ => True) (by omega) trivial (fun i x hi _ => ⟨fun rec => ?_, trivial⟩) (fun x _ rec => ?_)]
  · rfl
  · unfold fX2_coal_L4
    simp only [if_neg (n10 hi), show (24 : Int32) + nI i = nI (24 + i) from nI_add 24 i, rd36 (show 24 + i < 36 by omega), Option.bind_some, nI_add1, (rel_gal h hi).1]
  · unfold fX2_coal_L4
    simp only [if_pos p10]
theorem op_then {L : Nat → Bool} {M : am_M} (h : Inv L M) (a : Int32) : opk L (fX0_then M a) (fun M1 => fX2_then M1 a) := by
  by_cases g1 : fX2_in a 0 4 = 0
  · refine op_same h (-2) ?_ ?_
    · unfold fX0_then; rw [in_0_4, if_pos g1]
    · show fX2_then M a = _
      unfold fX2_then; rw [if_pos g1]
  rcases refuse_eq h with ⟨M1, M2, a1, a2, a3, a4⟩ | ⟨o2, t2, u2, n, a1, a2, a3, a4, a5, a6, a7, a8, a9, a10, a11⟩
  · refine ⟨-5, M1, M2, ?_, ?_, Inv_eqc h a3⟩
    · unfold fX0_then; rw [in_0_4, if_neg g1, a1, Option.bind_some]; dsimp only; rw [if_neg (by decide)]
    · show fX2_then M1 a = _
      unfold fX2_then; rw [if_neg g1, a2, Option.bind_some]; dsimp only; rw [if_neg (by decide)]
  · refine ⟨if a = 0 then lamp t2 else if a = 1 then t2 12 0 else if a = 2 then fo (fun g s => s + t2 2 g) 0 10 else if a = 3 then u2 13 0 else u2 14 0, mem2 M o2 t2, va_up (mem2 M o2 t2) 1 u2, ?_, ?_, Inv_eqc h (eqc_tr (eqc_m2 a3 a4) (eqc_1 a5))⟩
    · unfold fX0_then
      rw [in_0_4, if_neg g1, a1, Option.bind_some]
      dsimp only
      rw [if_pos rfl, m2_3, m2_0, lamps_eq, coal_x1, a10, a11]
      split
      · rfl
      · split
        · rfl
        · split
          · rfl
          · split <;> rfl
    · show fX2_then _ _ = _
      unfold fX2_then
      rw [if_neg g1, a2 (mem2 M o2 t2) rfl, Option.bind_some]
      dsimp only
      rw [if_pos (Int32.le_refl _), sm_at, lampsM_eq a6 a7, coal_x2 a7, show (35 : Int32) = nI 35 from rfl, rd36 (by omega), show u2 1 35 = t2 12 0 from a7.2.2.2.1]
      split
      · rfl
      · split
        · rfl
        · split
          · rfl
          · split <;> rfl
/-- the book is laid by what is now -/
def bk (u : Nat → Nat → Int32) (i : Nat) : Nat → Nat → Int32 := va_up u 0 (fun x => if x < i then u 1 x else u 0 x)
theorem done_loop (N : am_M) (u : Nat → Nat → Int32) : am_it fX2_done_L12 am_fuel ((0 : Int32), va_up N 1 u) = some (nI 36, va_up N 1 (bk u 36)) := by
  have h0 : bk u 0 = u := by
    unfold bk
    have : (fun x => if x < 0 then u 1 x else u 0 x) = u 0 := by funext x; simp
    rw [this, up_same]
  have := it_run0 (F := fX2_done_L12) (fun i => (nI i, va_up N 1 (bk u i))) 36 (res := (nI 36, va_up N 1 (bk u 36))) (by omega) (fun i hi rec => ?_) (fun rec => ?_)
  · rw [h0] at this
    exact this
  · have e1 : bk u i 1 = u 1 := rfl
    have e : va_up (bk u i) 0 (va_up (bk u i 0) i (u 1 i)) = bk u (i + 1) := by
      unfold bk
      rw [up_up]
      congr 1
      funext x
      by_cases hx : x = i
      · subst hx; simp [va_up]
      · by_cases h2 : x < i
        · have : x < i + 1 := by omega
          simp [va_up, hx, h2, this]
        · have : ¬ x < i + 1 := by omega
          simp [va_up, hx, h2, this]
    unfold fX2_done_L12
    simp only [if_neg (n36 hi), sm_at, e1, rd36 hi, wr36 hi, sm_up, e, Option.bind_some, nI_add1]
  · unfold fX2_done_L12
    simp only [if_pos p36]
theorem rel_bk {t u : Nat → Nat → Int32} (h : rel t (nowv u)) : rel t (bk u 36) := by
  obtain ⟨r1, r2, r3, r4, r5, r6, r7, r8⟩ := h
  have z : ∀ i, i < 36 → bk u 36 0 i = nowv u 0 i := by
    intro i hi
    show (if i < 36 then u 1 i else u 0 i) = u 1 i
    rw [if_pos hi]
  refine ⟨fun k hk => ?_, fun g hg => ?_, ?_, ?_, r5, r6, r7, r8⟩
  · rw [z _ (by omega), z _ (by omega), z _ (by omega)]; exact r1 k hk
  · rw [z _ (by omega)]; exact r2 g hg
  · rw [z _ (by omega)]; exact r3
  · rw [z _ (by omega)]; exact r4
theorem op_done {L : Nat → Bool} {M : am_M} (h : Inv L M) : opk L (fX0_done M) fX2_done := by
  rcases refuse_eq h with ⟨M1, M2, a1, a2, a3, a4⟩ | ⟨o2, t2, u2, n, a1, a2, a3, a4, a5, a6, a7, a8, a9, a10, a11⟩
  · refine ⟨-5, M1, M2, ?_, ?_, Inv_eqc h a3⟩
    · unfold fX0_done; rw [a1, Option.bind_some]; dsimp only; rw [if_neg (by decide)]
    · unfold fX2_done; rw [a2, Option.bind_some]; dsimp only; rw [if_neg (by decide)]
  · obtain ⟨N1, hN1⟩ : ∃ N1 : am_M, N1 = am_put (va_up (mem2 M o2 t2) 2 (tkR t2 (M 2))) 0 4 0 := ⟨_, rfl⟩
    have n1 : N1 1 = M 1 := by rw [hN1]; simp [am_put, am_up, va_up, mem2]
    have n2 : N1 2 = tkR t2 (M 2) := by rw [hN1]; simp [am_put, am_up, va_up]
    have n4 : N1 4 = M 4 := by rw [hN1]; simp [am_put, am_up, va_up, mem2]
    have n5 : N1 5 = M 5 := by rw [hN1]; simp [am_put, am_up, va_up, mem2]
    have n03 : N1 0 3 = M 0 3 := by rw [hN1, ← a3]; simp [am_put, am_up, va_up, mem2]
    have n04 : N1 0 4 0 = 0 := by rw [hN1]; simp [am_put, am_up, va_up]
    have n08 : N1 0 8 0 = nI n := by rw [hN1, ← a8]; simp [am_put, am_up, va_up, mem2]
    have hbar : fX2_barOfShifts N1 = some (0, va_up N1 1 u2) := a2 N1 n1
    refine ⟨nI n, N1, am_put (va_up N1 1 (bk u2 36)) 1 11 0, ?_, ?_, ?_⟩
    · unfold fX0_done
      rw [a1, Option.bind_some]
      dsimp only
      rw [if_pos rfl, take_eq (mem2 M o2 t2) (show ¬ 1 = 0 by omega), Option.bind_some]
      have e : va_up (mem2 M o2 t2) (0 + 2) (tkR (mem2 M o2 t2 (1 + 2)) (mem2 M o2 t2 (0 + 2))) = va_up (mem2 M o2 t2) 2 (tkR t2 (M 2)) := rfl
      rw [e, ← hN1, n08]
    · unfold fX2_done
      rw [hbar, Option.bind_some]
      dsimp only
      rw [if_pos (Int32.le_refl _), done_loop, Option.bind_some]
      dsimp only
      have e : (am_put (va_up N1 1 (bk u2 36)) 1 11 0) 1 17 0 = nI n := by
        rw [sm_put, sm_at]
        exact a9
      rw [e]
    · obtain ⟨hw, hr, ⟨s, hs, e1, e2, h3, h4⟩, h5⟩ := h
      rw [sm_put]
      refine ⟨?_, ?_, ?_, ?_⟩
      · rw [sm_ne (by decide), n2]; exact wf_take a6
      · rw [sm_ne (show ¬ 2 = 1 by decide), sm_at, n2]
        exact rel_cg (fun k hk _ => by have : ¬ k = 11 := by omega
                                       simp [va_up, this]) (rel_take (rel_bk a7))
      · refine ⟨0, by omega, ?_, ?_, fun i hi => ?_, fun i hi => absurd hi (by omega)⟩
        · rw [sm_ne (by decide), n04, nI_0]
        · rw [sm_at, nI_0]; rfl
        · rw [sm_ne (by decide), sm_at, n03]
          have e : va_up (bk u2 36) 11 (va_up (bk u2 36 11) 0 0) 12 = u2 12 := rfl
          rw [e, a5 12 (by omega) (by omega)]
          exact h3 i hi
      · refine img_cg h5 ?_ ?_ ?_ ?_
        · rw [sm_ne (by decide), n4]
        · rw [sm_ne (by decide), n5]
        · rw [sm_at]
          exact a5 22 (by omega) (by omega)
        · rw [sm_at]
          exact a5 23 (by omega) (by omega)
