/-! OPERATION: year -/
set_option maxRecDepth 100000
theorem act_two {t u : Nat → Nat → Int32} (hw : wf t) (hr : rel t (nowv u)) {a k v : Int32} {f2 : am_M → Option (Int32 × am_M)} (h : actk t u a k v f2) : ∃ t' u', wf t' ∧ rel t' (nowv u') ∧ kps u u' ∧
    (∀ (M : am_M) (g : am_M → Option (Int32 × Int32 × am_M)), (Option.bind (fX1_whyNot t a k v) fun v6 => Option.bind (if v6 = 0 then (Option.bind (fX1_happen (va_up M 3 t) 1 a k v) fun M7 => some M7) else some (va_up M 3 t)) g) = g (va_up M 3 t')) ∧
    (∀ N, (Option.bind (f2 (va_up N 1 u)) fun r => some r.2) = some (va_up N 1 u')) := by
  obtain ⟨w, e, ⟨z, t', u', h1, h2, h3, h4, h5⟩ | ⟨z, h2⟩⟩ := h
  · refine ⟨t', u', h3, h4, kps_k h5, fun M g => ?_, fun N => ?_⟩
    · rw [e, Option.bind_some, if_pos z, h1 M, Option.bind_some, Option.bind_some]
    · rw [h2 N, Option.bind_some]
  · refine ⟨t, u, hw, hr, kps_rf u, fun M g => ?_, fun N => ?_⟩
    · rw [e, Option.bind_some, if_neg, Option.bind_some]
      intro q
      rw [q] at z
      exact absurd z (by decide)
    · rw [h2 N, Option.bind_some]
theorem actBy_case {h : Nat} (hh : h < 8) : (fX0_actBy (nI h) = 0 ∧ ¬ (3 : Int32) ≤ nI h) ∨ (fX0_actBy (nI h) = 1 ∧ (3 : Int32) ≤ nI h ∧ nI h = 3) ∨ (fX0_actBy (nI h) = 3 ∧ (3 : Int32) ≤ nI h ∧ ¬ nI h = 3 ∧ (6 : Int32) ≤ nI h ∧ nI h = 6) ∨ (fX0_actBy (nI h) = 4 ∧ (3 : Int32) ≤ nI h ∧ ¬ nI h = 3 ∧ (6 : Int32) ≤ nI h ∧ ¬ nI h = 6) ∨ (fX0_actBy (nI h) = 2 ∧ (3 : Int32) ≤ nI h ∧ ¬ nI h = 3 ∧ ¬ (6 : Int32) ≤ nI h) := by
  have : ∀ h : Fin 8, (fX0_actBy (nI h.1) = 0 ∧ ¬ (3 : Int32) ≤ nI h.1) ∨ (fX0_actBy (nI h.1) = 1 ∧ (3 : Int32) ≤ nI h.1 ∧ nI h.1 = 3) ∨ (fX0_actBy (nI h.1) = 3 ∧ (3 : Int32) ≤ nI h.1 ∧ ¬ nI h.1 = 3 ∧ (6 : Int32) ≤ nI h.1 ∧ nI h.1 = 6) ∨ (fX0_actBy (nI h.1) = 4 ∧ (3 : Int32) ≤ nI h.1 ∧ ¬ nI h.1 = 3 ∧ (6 : Int32) ≤ nI h.1 ∧ ¬ nI h.1 = 6) ∨ (fX0_actBy (nI h.1) = 2 ∧ (3 : Int32) ≤ nI h.1 ∧ ¬ nI h.1 = 3 ∧ ¬ (6 : Int32) ≤ nI h.1) := by decide
  exact this ⟨h, hh⟩
def yx (x : Nat) : Nat := (75 * x + 74) % 65537
theorem yx_lt (x : Nat) : yx x < 65537 := Nat.mod_lt _ (by omega)
theorem yx_0 {x : Nat} (hx : x < 65537) : (jv_lrem ((75 : Int64) * (nI x).toInt64 + (74 : Int64)) (65537 : Int64)).toInt32 = nI (yx x) := by
  have e : (75 : Int64) * (nI x).toInt64 + (74 : Int64) = lN (75 * x + 74) := by
    rw [nI_l (by omega), show (75 : Int64) = lN 75 from rfl, show (74 : Int64) = lN 74 from rfl, lN_mul, lN_add]
  rw [e, ← lN_i]
  exact congrArg Int64.toInt32 (pk_lRem (a := 75 * x + 74) (b := 65537) (by omega) (by omega) (by omega))
theorem yx_2 {x : Nat} (hx : x < 65537) : jv_rem ((75 : Int32) * nI x + (74 : Int32)) (65537 : Int32) = nI (yx x) := by
  have e : (75 : Int32) * nI x + (74 : Int32) = nI (75 * x + 74) := by
    rw [show (75 : Int32) = nI 75 from rfl, show (74 : Int32) = nI 74 from rfl, pk_mul, nI_add]
  rw [e]
  exact pk_rem (a := 75 * x + 74) (d := 65537) (by omega) (by omega) (by omega)
theorem year_step {t u : Nat → Nat → Int32} (hw : wf t) (hr : rel t (nowv u)) {x e n : Nat} (hx : x < 65537) (he : e < n) (hn : n ≤ 99) : ∃ t' u', wf t' ∧ rel t' (nowv u') ∧ kps u u' ∧
    (∀ M rec, fX0_year_L56 (nI n) rec (nI x, nI e, va_up M 3 t) = rec (nI (yx x), nI (e + 1), va_up M 3 t')) ∧
    (∀ N rec, fX2_year_L43 (nI n) rec (nI x, nI e, va_up N 1 u) = rec (nI (yx x), nI (e + 1), va_up N 1 u')) := by
  have hy := yx_lt x
  have nle : ¬ nI n ≤ nI e := nI_ge he (by omega)
  have r8 : ∀ a, a < 65537 → jv_rem (nI a) 8 = nI (a % 8) := fun a ha => pk_rem (a := a) (d := 8) (by omega) (by omega) (by omega)
  have r10 : ∀ a, a < 65537 → jv_rem (nI a) 10 = nI (a % 10) := fun a ha => pk_rem (a := a) (d := 10) (by omega) (by omega) (by omega)
  have r24 : ∀ a, a < 65537 → jv_rem (nI a) 24 = nI (a % 24) := fun a ha => pk_rem (a := a) (d := 24) (by omega) (by omega) (by omega)
  have d8 : nI (yx x) / 8 = nI (yx x / 8) := pk_div (a := yx x) (d := 8) (by omega) (by omega) (by omega)
  have d64 : nI (yx x) / 64 = nI (yx x / 64) := pk_div (a := yx x) (d := 64) (by omega) (by omega) (by omega)
  have l8 : yx x / 8 < 65537 := by omega
  have l64 : yx x / 64 < 65537 := by omega
  have hh : yx x / 8 % 8 < 8 := Nat.mod_lt _ (by omega)
  have hk : yx x % 8 < 8 := Nat.mod_lt _ (by omega)
  have h10 : yx x / 64 % 10 < 10 := Nat.mod_lt _ (by omega)
  have h24 : yx x / 64 % 24 < 24 := Nat.mod_lt _ (by omega)
  have n10 : ¬ (10 : Int32) = 0 := by decide
  have n24 : ¬ (24 : Int32) = 0 := by decide
  have key : ∃ a v f2, fX0_actBy (nI (yx x / 8 % 8)) = a ∧ (∃ z : Int32, (if a = 0 then some (24 : Int32) else some 10) = some z ∧ ¬ z = 0 ∧ jv_rem (nI (yx x / 64)) z = v) ∧ actk t u a (nI (yx x % 8)) v f2 ∧
      (∀ N rec, fX2_year_L43 (nI n) rec (nI x, nI e, va_up N 1 u) = Option.bind (Option.bind (f2 (va_up N 1 u)) fun r => some r.2) fun x10 => rec (nI (yx x), nI (e + 1), x10)) := by
    have hM : ∀ N rec, fX2_year_L43 (nI n) rec (nI x, nI e, va_up N 1 u) = (Option.bind (if (3 : Int32) ≤ nI (yx x / 8 % 8) then (if nI (yx x / 8 % 8) = 3 then (Option.bind (fX2_hush (va_up N 1 u) (nI (yx x % 8))) fun r4 => some r4.2) else (if (6 : Int32) ≤ nI (yx x / 8 % 8) then (if nI (yx x / 8 % 8) = 6 then (Option.bind (am_rd ((va_up N 1 u) 1 1) 36 (34 : Int32)) fun v5 => (Option.bind (am_wr (va_up N 1 u) 1 1 36 (34 : Int32) (v5 ^^^ ((1 : Int32) <<< (nI (yx x / 64 % 10) &&& 31)))) fun M6 => some M6)) else (Option.bind (fX2_beat (va_up N 1 u)) fun r7 => some r7.2)) else (Option.bind (fX2_go (va_up N 1 u) (nI (yx x % 8)) (nI (yx x / 64 % 10))) fun r8 => some r8.2))) else (Option.bind (fX2_sing (va_up N 1 u) (nI (yx x % 8)) (nI (yx x / 64 % 24))) fun r9 => some r9.2)) fun x10 => rec (nI (yx x), nI (e + 1), x10)) := by
      intro N rec
      unfold fX2_year_L43
      rw [if_neg nle]
      show Option.bind (some (jv_rem ((75 : Int32) * nI x + (74 : Int32)) (65537 : Int32))) _ = _
      rw [yx_2 hx, Option.bind_some, d8, d64, r8 _ l8, r8 _ hy, r10 _ l64, r24 _ l64, nI_add1]
    rcases actBy_case hh with ⟨q0, q1⟩ | ⟨q0, q1, q2⟩ | ⟨q0, q1, q2, q3, q4⟩ | ⟨q0, q1, q2, q3, q4⟩ | ⟨q0, q1, q2, q3⟩
    · refine ⟨0, nI (yx x / 64 % 24), _, q0, ⟨24, rfl, n24, r24 _ l64⟩, act_sing hw hr hk h24, fun N rec => ?_⟩
      rw [hM, if_neg q1]
    · refine ⟨1, nI (yx x / 64 % 10), _, q0, ⟨10, rfl, n10, r10 _ l64⟩, act_stop hw hr hk _, fun N rec => ?_⟩
      rw [hM, if_pos q1, if_pos q2]
    · refine ⟨3, nI (yx x / 64 % 10), _, q0, ⟨10, rfl, n10, r10 _ l64⟩, act_fall hw hr _ h10, fun N rec => ?_⟩
      rw [hM, if_pos q1, if_neg q2, if_pos q3, if_pos q4]
      show _ = Option.bind (Option.bind (fallM _ _) _) _
      unfold fallM
      simp only [Option.bind_assoc, Option.bind_some]
    · refine ⟨4, nI (yx x / 64 % 10), _, q0, ⟨10, rfl, n10, r10 _ l64⟩, act_pass hw hr _ _, fun N rec => ?_⟩
      rw [hM, if_pos q1, if_neg q2, if_pos q3, if_neg q4]
    · refine ⟨2, nI (yx x / 64 % 10), _, q0, ⟨10, rfl, n10, r10 _ l64⟩, act_go hw hr hk h10, fun N rec => ?_⟩
      rw [hM, if_pos q1, if_neg q2, if_neg q3]
  obtain ⟨a, v, f2, ea, ⟨z, ez, nz, ev⟩, hact, hM⟩ := key
  obtain ⟨t', u', g1, g2, g3, g4, g5⟩ := act_two hw hr hact
  refine ⟨t', u', g1, g2, g3, fun M rec => ?_, fun N rec => ?_⟩
  · unfold fX0_year_L56
    rw [if_neg nle]
    show Option.bind (some (jv_lrem ((75 : Int64) * (nI x).toInt64 + (74 : Int64)) (65537 : Int64)).toInt32) _ = _
    rw [yx_0 hx, Option.bind_some, d8, d64, r8 _ l8, r8 _ hy, Option.bind_some, ea, ez, Option.bind_some, if_neg nz, ev, nI_add1]
    show Option.bind (fX1_whyNot (va_up M 3 t 3) _ _ _) _ = _
    rw [sm_at]
    exact g4 M _
  · rw [hM, g5, Option.bind_some]
theorem year_loop {n : Nat} (hn : n ≤ 99) : ∀ (k e x : Nat) (t u : Nat → Nat → Int32), e + k = n → x < 65537 → wf t → rel t (nowv u) → ∀ f, k < f → ∃ y t' u', wf t' ∧ rel t' (nowv u') ∧ kps u u' ∧
    (∀ M, am_it (fX0_year_L56 (nI n)) f (nI x, nI e, va_up M 3 t) = some (y, nI n, va_up M 3 t')) ∧
    (∀ N, am_it (fX2_year_L43 (nI n)) f (nI x, nI e, va_up N 1 u) = some (y, nI n, va_up N 1 u')) := by
  intro k
  induction k with
  | zero =>
    intro e x t u he hx hw hr f hf
    obtain ⟨f, rfl⟩ : ∃ g, f = g + 1 := ⟨f - 1, by omega⟩
    have e' : e = n := by omega
    subst e'
    refine ⟨nI x, t, u, hw, hr, kps_rf u, fun M => ?_, fun N => ?_⟩
    · show fX0_year_L56 _ (am_it _ f) _ = _
      unfold fX0_year_L56
      rw [if_pos (Int32.le_refl _)]
    · show fX2_year_L43 _ (am_it _ f) _ = _
      unfold fX2_year_L43
      rw [if_pos (Int32.le_refl _)]
  | succ k ih =>
    intro e x t u he hx hw hr f hf
    obtain ⟨f, rfl⟩ : ∃ g, f = g + 1 := ⟨f - 1, by omega⟩
    obtain ⟨t1, u1, a1, a2, a3, a4, a5⟩ := year_step hw hr hx (show e < n by omega) hn
    obtain ⟨y, t2, u2, b1, b2, b3, b4, b5⟩ := ih (e + 1) (yx x) t1 u1 (by omega) (yx_lt x) a1 a2 f (by omega)
    refine ⟨y, t2, u2, b1, b2, kps_tr a3 b3, fun M => ?_, fun N => ?_⟩
    · show fX0_year_L56 _ (am_it _ f) _ = _
      rw [a4]; exact b4 M
    · show fX2_year_L43 _ (am_it _ f) _ = _
      rw [a5]; exact b5 N
/-! how many sing -/
def sset (m : Nat → Nat → Int32) : Nat := fo (fun k s => if sg m k = true then ins s k else s) 0 8
def scnt (m : Nat → Nat → Int32) : Nat := fo (fun k s => s + (if sg m k = true then 1 else 0)) 0 8
theorem cnt_dec : ∀ a b c d e f g h : Bool, pop (fo (fun k s => if [a, b, c, d, e, f, g, h].getD k false = true then ins s k else s) 0 8) = fo (fun k s => s + (if [a, b, c, d, e, f, g, h].getD k false = true then 1 else 0)) 0 8 := by decide +kernel
theorem cnt_eq (m : Nat → Nat → Int32) : pop (sset m) = scnt m := by
  have hl : ∀ k, k < 8 → sg m k = [sg m 0, sg m 1, sg m 2, sg m 3, sg m 4, sg m 5, sg m 6, sg m 7].getD k false := by
    intro k hk
    rcases (show k = 0 ∨ k = 1 ∨ k = 2 ∨ k = 3 ∨ k = 4 ∨ k = 5 ∨ k = 6 ∨ k = 7 by omega) with rfl | rfl | rfl | rfl | rfl | rfl | rfl | rfl <;> rfl
  unfold sset scnt
  rw [fo_congr (f := fun k s => if sg m k = true then ins s k else s) (fun i hi x => by rw [hl i hi]), fo_congr (f := fun k s => s + (if sg m k = true then 1 else 0)) (fun i hi x => by rw [hl i hi])]
  exact cnt_dec _ _ _ _ _ _ _ _
theorem singing_eq (m : Nat → Nat → Int32) : fX1_singing m = some (nI (sset m)) ∧ sset m < 256 := by
  have key : ∀ n, n ≤ 8 → fo (fun k (s : Int32) => s ||| (if sg m k = true then (1 : Int32) <<< (nI k &&& 31) else 0)) 0 n = nI (fo (fun k s => if sg m k = true then ins s k else s) 0 n) ∧ fo (fun k s => if sg m k = true then ins s k else s) 0 n < 256 := by
    intro n
    induction n with
    | zero => intro _; exact ⟨nI_0.symm, by show 0 < 256; omega⟩
    | succ n ih =>
      intro h
      obtain ⟨e, hl⟩ := ih (by omega)
      have hp : 2 ^ n < 256 := Nat.pow_lt_pow_right (show 1 < 2 by omega) (show n < 8 by omega)
      show _ ||| _ = nI (if sg m n = true then _ else _) ∧ (if sg m n = true then _ else _) < 256
      rw [e]
      by_cases z : sg m n = true
      · rw [if_pos z, if_pos z, one_shl (by omega), nI_or (by omega) (by omega)]
        exact ⟨rfl, ins_lt (n := 8) hl (by omega)⟩
      · rw [if_neg z, if_neg z]
        refine ⟨?_, hl⟩
        have q := nI_or (a := fo (fun k s => if sg m k = true then ins s k else s) 0 n) (b := 0) (by omega) (by omega)
        rw [Nat.or_zero] at q
        exact q
  refine ⟨?_, (key 8 (Nat.le_refl _)).2⟩
  unfold fX1_singing
  rw [it_fo (F := fX1_singing_L4 m) (fun k (s : Int32) => s ||| (if sg m k = true then (1 : Int32) <<< (nI k &&& 31) else 0)) 0 8 (fun x => (x, nI 8)) (fun _ _ => True) (by omega) trivial (fun i x hi _ => ⟨fun rec => ?_, trivial⟩) (fun x _ rec => ?_)]
  · rw [Option.bind_some]
    exact congrArg some (key 8 (Nat.le_refl _)).1
  · unfold fX1_singing_L4
    simp only [if_neg (n8 hi), sings_eq hi, Option.bind_some, ite_b1, nI_add1]
    cases sg m i <;> simp
  · unfold fX1_singing_L4
    simp only [if_pos p8]
theorem count_eq {m u : Nat → Nat → Int32} (h : rel m (nowv u)) (y z : Int32) (N : am_M) : am_it (fX2_year_L189 (y, z, va_up N 1 u)) am_fuel ((0 : Int32), (0 : Int32)) = some (nI (scnt m), nI 8) := by
  have key : ∀ n, n ≤ 8 → fo (fun k (s : Int32) => s + (if sg m k = true then 1 else 0)) 0 n = nI (fo (fun k s => s + (if sg m k = true then 1 else 0)) 0 n) := by
    intro n
    induction n with
    | zero => intro _; exact nI_0.symm
    | succ n ih =>
      intro h
      show fo _ 0 n + _ = nI (_ + _)
      rw [ih (by omega), ← nI_add]
      cases sg m n <;> rfl
  unfold scnt
  rw [← key 8 (Nat.le_refl _)]
  refine it_fo (F := fX2_year_L189 (y, z, va_up N 1 u)) (fun k (s : Int32) => s + (if sg m k = true then 1 else 0)) 0 8 (fun x => (x, nI 8)) (fun _ _ => True) (by omega) trivial (fun i x hi _ => ⟨fun rec => ?_, trivial⟩) (fun x _ rec => ?_)
  · obtain ⟨-, -, -, -, -, q6⟩ := rel_now h hi
    have h2 : u 2 0 = m 5 0 := rel_there h
    unfold fX2_year_L189 sg
    simp only [if_neg (n8 hi), sm_at, has_hb, h2, rd36 (show i < 36 by omega), Option.bind_some, nI_add1]
    cases hz : hb (m 5 0) (nI i) with
    | false => simp
    | true =>
      rw [q6 hz]
      by_cases h3 : m 11 i < 0
      · have : ¬ 0 ≤ m 11 i := Int32.not_le.mpr h3
        simp [h3, this]
      · have : 0 ≤ m 11 i := Int32.not_lt.mp h3
        simp [h3, this]
  · unfold fX2_year_L189
    simp only [if_pos p8]
theorem asn_1 {N M : am_M} (h : N 1 = M 1) : asnM N 1 = asnM M 1 := by
  unfold asnM asn am_put am_up
  simp only [sm_at, h]
theorem op_year {L : Nat → Bool} {M : am_M} (h : Inv L M) (a b c : Int32) : opk L (fX0_year M a b c) (fun M1 => fX2_year M1 a b c) := by
  by_cases g1 : fX2_in a 0 9999 = 0
  · refine op_same h (-2) ?_ ?_
    · unfold fX0_year; rw [in_0_9999, if_pos g1]
    · show fX2_year M a b c = _
      unfold fX2_year; rw [if_pos g1]
  by_cases g2 : fX2_in b 1 99 = 0
  · refine op_same h (-2) ?_ ?_
    · unfold fX0_year; rw [in_0_9999, if_neg g1, in_1_99, if_pos g2]
    · show fX2_year M a b c = _
      unfold fX2_year; rw [if_neg g1, if_pos g2]
  by_cases g3 : fX2_in c 0 2 = 0
  · refine op_same h (-2) ?_ ?_
    · unfold fX0_year; rw [in_0_9999, if_neg g1, in_1_99, if_neg g2, in_0_2, if_pos g3]
    · show fX2_year M a b c = _
      unfold fX2_year; rw [if_neg g1, if_neg g2, if_pos g3]
  obtain ⟨x, hx, rfl⟩ := in_n (n := 9999) (by omega) g1
  obtain ⟨n, n1, n2, rfl⟩ := in_1_99n g2
  have hw := wf_take (m := M 3) h.1
  have hN : ∀ t : Nat → Nat → Int32, Inv L (va_up M 3 t) := fun t => Inv_eqc h ⟨sm_ne (by decide), sm_ne (by decide), sm_ne (by decide), by rw [sm_ne (by decide)], by rw [sm_ne (by decide)], fun k _ _ => by rw [sm_ne (by decide)], by rw [sm_ne (by decide)], by rw [sm_ne (by decide)]⟩
  have hr : rel (tkR (M 2) (M 3)) (nowv (asnM M 1)) := rel_take (asn_rel h.2.1)
  obtain ⟨y, t, u, b1, b2, b3, b4, b5⟩ := year_loop n2 n 0 x _ _ (by omega) (by omega) hw hr am_fuel (by show n < 100001; omega)
  have e0 : fX0_year M (nI x) (nI n) c = (if c = 0 then some (fo (fun g s => s + t 2 g) 0 10, va_up M 3 t) else if c = 1 then some (nI (pop (lset t)), va_up M 3 t) else some (nI (scnt t), va_up M 3 t)) := by
    have q := b4 M
    unfold fX0_year
    rw [in_0_9999, if_neg g1, in_1_99, if_neg g2, in_0_2, if_neg g3, take_eq M (by decide), Option.bind_some]
    rw [show am_it (fX0_year_L56 (nI n)) am_fuel (nI x, (0 : Int32), va_up M (1 + 2) (tkR (M (0 + 2)) (M (1 + 2)))) = some (y, nI n, va_up M 3 t) from q, Option.bind_some]
    show (if c = 0 then Option.bind (fX1_coalInAll (va_up M 3 t 3)) _ else if c = 1 then Option.bind (fX1_lamps (va_up M 3 t 3)) _ else Option.bind (fX1_singing (va_up M 3 t 3)) _) = _
    have ls := (lamp_set t).2
    have ss := (singing_eq t).2
    rw [sm_at, coal_x1, lamps_eq, (lamp_set t).1, (singing_eq t).1, Option.bind_some, Option.bind_some, Option.bind_some, bitCount_n (by omega), bitCount_n (by omega), Option.bind_some, Option.bind_some, cnt_eq]
  have e2 : ∀ N, N 1 = M 1 → fX2_year N (nI x) (nI n) c = (if c = 0 then some (fo (fun g s => s + t 2 g) 0 10, va_up N 1 u) else if c = 1 then some (nI (pop (lset t)), va_up N 1 u) else some (nI (scnt t), va_up N 1 u)) := by
    intro N hN1
    have q := b5 N
    have ea : asnM N = va_up N 1 (asnM M 1) := by
      rw [asn_form N]
      congr 1
      exact asn_1 hN1
    unfold fX2_year
    rw [if_neg g1, if_neg g2, if_neg g3, asNow_eq, Option.bind_some, ea]
    rw [show am_it (fX2_year_L43 (nI n)) am_fuel (nI x, (0 : Int32), va_up N 1 (asnM M 1)) = some (y, nI n, va_up N 1 u) from q, Option.bind_some, count_eq b2, Option.bind_some]
    show (if c = 0 then Option.bind (fX2_coal (va_up N 1 u 1)) _ else if c = 1 then Option.bind (fX2_lamps (va_up N 1 u 1)) _ else _) = _
    have ls := (lamp_set t).2
    rw [sm_at, coal_x2 b2, lampsM_eq b1 b2, (lamp_set t).1, Option.bind_some, Option.bind_some, bits_n (by omega), Option.bind_some]
  have hk : kps (va_up M 3 t 1) u := by
    rw [sm_ne (by decide)]
    exact kps_tr (asn_kps M) b3
  have hI : Inv L (va_up (va_up M 3 t) 1 u) := Inv_eqc (hN t) (eqc_1 hk)
  have e3 := e2 (va_up M 3 t) (sm_ne (by decide))
  unfold opk
  simp only [e0, e3]
  by_cases c0 : c = 0
  · simp only [if_pos c0]
    exact ⟨_, _, _, rfl, e3.trans (by rw [if_pos c0]), hI⟩
  · simp only [if_neg c0]
    by_cases c1 : c = 1
    · simp only [if_pos c1]
      exact ⟨_, _, _, rfl, e3.trans (by rw [if_neg c0, if_pos c1]), hI⟩
    · simp only [if_neg c1]
      exact ⟨_, _, _, rfl, e3.trans (by rw [if_neg c0, if_neg c1]), hI⟩
