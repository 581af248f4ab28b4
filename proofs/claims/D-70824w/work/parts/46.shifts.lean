/-! SHIFTS: all acts of a text, in both systems -/
set_option maxRecDepth 100000
def mem2 (M : am_M) (o t : Nat → Nat → Int32) : am_M := va_up (va_up M 0 o) 3 t
theorem m2_0 {M : am_M} {o t : Nat → Nat → Int32} : mem2 M o t 0 = o := by unfold mem2; rw [sm_ne (by decide), sm_at]
theorem m2_3 {M : am_M} {o t : Nat → Nat → Int32} : mem2 M o t 3 = t := sm_at
theorem m2_put {M : am_M} {o t : Nat → Nat → Int32} {k : Nat} {v : Int32} : am_put (mem2 M o t) 0 k v = mem2 M (va_up o k (va_up (o k) 0 v)) t := by
  funext a
  by_cases h0 : a = 0
  · subst h0; simp [mem2, am_put, am_up, va_up]
  · by_cases h3 : a = 3
    · subst h3; simp [mem2, am_put, am_up, va_up]
    · simp [mem2, am_put, am_up, va_up, h0, h3]
/-- the reference's reading of one act at p -/
def tokM (c : Nat → Nat) (p : Nat) (M : am_M) : Option (Int32 × am_M) := if c p = 46 then fX2_beat M else if c p = 42 then fallM M (nI (tWhat c p)) else if c (p + 1) = 45 then fX2_hush M (nI (tWho c p)) else if c (p + 1) = 62 then fX2_go M (nI (tWho c p)) (nI (tWhat c p)) else fX2_sing M (nI (tWho c p)) (nI (tWhat c p))
theorem tok_act {c : Nat → Nat} {p : Nat} {t u : Nat → Nat → Int32} (hk : tOK c p) (hw : wf t) (h : rel t (nowv u)) : actk t u (nI (tAct c p)) (nI (tWho c p)) (nI (tWhat c p)) (tokM c p) := by
  by_cases h46 : c p = 46
  · have e : tokM c p = fX2_beat := by funext M; unfold tokM; rw [if_pos h46]
    have ea : tAct c p = 4 := by unfold tAct; rw [if_pos h46]
    rw [e, ea]
    exact act_pass hw h _ _
  · by_cases h42 : c p = 42
    · have e : tokM c p = fun M => fallM M (nI (tWhat c p)) := by funext M; unfold tokM; rw [if_neg h46, if_pos h42]
      have ea : tAct c p = 3 := by unfold tAct; rw [if_neg h46, if_pos h42]
      have ew : tWhat c p < 10 := by
        rcases hk with hk | ⟨-, hk⟩ | ⟨hk, -⟩
        · exact absurd hk h46
        · unfold tWhat isDg at *
          simp only [Bool.and_eq_true, decide_eq_true_eq] at hk
          rw [if_neg h46, if_pos h42]
          omega
        · rw [h42] at hk; exact absurd hk (by decide)
      rw [e, ea]
      exact act_fall hw h _ ew
    · rcases hk with hk | ⟨hk, -⟩ | ⟨hl, hd⟩
      · exact absurd hk h46
      · exact absurd hk h42
      · have ewho : tWho c p < 8 := by
          unfold tWho
          rw [if_pos hl]
          unfold isLt at hl
          simp only [Bool.and_eq_true, decide_eq_true_eq] at hl
          omega
        by_cases h45 : c (p + 1) = 45
        · have e : tokM c p = fun M => fX2_hush M (nI (tWho c p)) := by funext M; unfold tokM; rw [if_neg h46, if_neg h42, if_pos h45]
          have ea : tAct c p = 1 := by unfold tAct; rw [if_neg h46, if_neg h42, if_pos h45]
          rw [e, ea]
          exact act_stop hw h ewho _
        · by_cases h62 : c (p + 1) = 62
          · have e : tokM c p = fun M => fX2_go M (nI (tWho c p)) (nI (tWhat c p)) := by funext M; unfold tokM; rw [if_neg h46, if_neg h42, if_neg h45, if_pos h62]
            have ea : tAct c p = 2 := by unfold tAct; rw [if_neg h46, if_neg h42, if_neg h45, if_pos h62]
            have ew : tWhat c p < 10 := by
              rcases hd with hd | hd | ⟨-, hd⟩
              · exact absurd hd h45
              · rw [h62] at hd; exact absurd hd (by decide)
              · unfold tWhat isDg at *
                simp only [Bool.and_eq_true, decide_eq_true_eq] at hd
                rw [if_neg h46, if_neg h42, if_neg h45, if_pos h62]
                omega
            rw [e, ea]
            exact act_go hw h ewho ew
          · have e : tokM c p = fun M => fX2_sing M (nI (tWho c p)) (nI (tWhat c p)) := by funext M; unfold tokM; rw [if_neg h46, if_neg h42, if_neg h45, if_neg h62]
            have ea : tAct c p = 0 := by unfold tAct; rw [if_neg h46, if_neg h42, if_neg h45, if_neg h62]
            have ew : tWhat c p < 24 := by
              rcases hd with hd | hd | ⟨hd, -⟩
              · exact absurd hd h45
              · unfold tWhat isNt at *
                simp only [Bool.and_eq_true, decide_eq_true_eq] at hd
                rw [if_neg h46, if_neg h42, if_neg h45, if_neg h62]
                omega
              · exact absurd hd h62
            rw [e, ea]
            exact act_sing hw h ewho ew
/-- the reference's step up to its reason, as it stands in its loop -/
def stepM (p : Int32) (M : am_M) : Option (Int32 × am_M) :=
  Option.bind (am_rd (M 1 12) 60 p) fun v3 => (if v3 = (46 : Int32) then
(Option.bind (fX2_beat (am_put M 1 16 (0 : Int32))) fun r4 =>
some ((p + 1), (am_put r4.2 1 16 r4.1)))
 else
(if v3 = (42 : Int32) then
(Option.bind (am_rd ((am_put M 1 16 (0 : Int32)) 1 1) 36 (34 : Int32)) fun v5 =>
(Option.bind (am_rd ((am_put M 1 16 (0 : Int32)) 1 12) 60 (p + (1 : Int32))) fun v6 =>
(Option.bind (am_wr (am_put M 1 16 (0 : Int32)) 1 1 36 (34 : Int32) (v5 ^^^ ((1 : Int32) <<< ((v6 - (48 : Int32)) &&& 31)))) fun M7 =>
some ((p + 2), M7))))
 else
(Option.bind (am_rd ((am_put M 1 16 (0 : Int32)) 1 12) 60 (p + (1 : Int32))) fun v8 =>
(Option.bind (if v8 = (45 : Int32) then
(Option.bind (fX2_hush (am_put M 1 16 (0 : Int32)) (v3 - (65 : Int32))) fun r9 =>
some (r9.1, r9.2))
 else
(if v8 = (62 : Int32) then
(Option.bind (am_rd ((am_put M 1 16 (0 : Int32)) 1 12) 60 (p + (2 : Int32))) fun v10 =>
(Option.bind (fX2_go (am_put M 1 16 (0 : Int32)) (v3 - (65 : Int32)) (v10 - (48 : Int32))) fun r11 =>
some (r11.1, r11.2)))
 else
(Option.bind (fX2_sing (am_put M 1 16 (0 : Int32)) (v3 - (65 : Int32)) (v8 - (97 : Int32))) fun r12 =>
some (r12.1, r12.2)))) fun (x13 : (Int32 × am_M)) =>
(Option.bind (if v8 = (62 : Int32) then
some (3 : Int32)
 else
some (2 : Int32)) fun (x14 : Int32) =>
some ((p + x14), (am_put x13.2 1 16 x13.1)))))))
theorem step_eq {c : Nat → Nat} {p s : Nat} {u : Nat → Nat → Int32} {M : am_M} (hs : s ≤ 60) (hk : tOK c p) (hp : p + tl c p ≤ s) (hc : ∀ i, i < s → 33 ≤ c i ∧ c i ≤ 126 ∧ u 12 i = nI (c i)) {w : Int32} {u' : Nat → Nat → Int32} (ht : ∀ N, tokM c p (va_up N 1 (va_up u 16 (va_up (u 16) 0 0))) = some (w, va_up N 1 u')) (h16 : w = 0 → u' 16 = va_up (u 16) 0 0) : stepM (nI p) (va_up M 1 u) = some (nI (p + tl c p), va_up M 1 (va_up u' 16 (va_up (u' 16) 0 w))) := by
  have hpl := tl_pos c p
  obtain ⟨c1, c2, c3⟩ := hc p (by omega)
  have ceq : ∀ x z : Nat, x ≤ 126 → z ≤ 126 → (nI x = nI z) = (x = z) := fun x z hx hz => lit_eq (by omega) (by omega)
  have e12 : va_up u 16 (va_up (u 16) 0 0) 12 = u 12 := rfl
  have e1 : va_up u 16 (va_up (u 16) 0 0) 1 = u 1 := rfl
  have t1 := ht M
  unfold stepM
  simp only [sm_at, rd60 (show p < 60 by omega), c3, Option.bind_some, sm_put, e12, e1]
  unfold tokM at t1
  by_cases h46 : c p = 46
  · rw [if_pos h46] at t1
    rw [if_pos (show nI (c p) = (46 : Int32) by rw [h46]; rfl), t1, Option.bind_some]
    dsimp only
    have et : tl c p = 1 := by unfold tl; rw [if_pos h46]
    rw [et, nI_1, sm_put]
  · rw [if_neg h46] at t1
    rw [if_neg (show ¬ nI (c p) = (46 : Int32) by rw [show (46 : Int32) = nI 46 from rfl, ceq _ 46 c2 (by omega)]; exact h46)]
    by_cases h42 : c p = 42
    · rw [if_pos h42] at t1
      rw [if_pos (show nI (c p) = (42 : Int32) by rw [h42]; rfl)]
      have et : tl c p = 2 := by unfold tl; rw [if_neg h46, if_pos h42]
      obtain ⟨d1, d2, d3⟩ := hc (p + 1) (by omega)
      have hdg : isDg (c (p + 1)) = true := by
        rcases hk with hk | ⟨-, hk⟩ | ⟨hk, -⟩
        · exact absurd hk h46
        · exact hk
        · rw [h42] at hk; exact absurd hk (by decide)
      have ew : nI (c (p + 1)) - 48 = nI (tWhat c p) := by
        rw [(isG_c d1 d2).2 hdg]
        unfold tWhat
        rw [if_neg h46, if_pos h42]
      unfold fallM at t1
      simp only [sm_at, e1, show (34 : Int32) = nI 34 from rfl, rd36 (show 34 < 36 by omega), wr36 (show 34 < 36 by omega), Option.bind_some, sm_up] at t1
      simp only [nI_1, rd60 (show p + 1 < 60 by omega), d3, Option.bind_some, ew, show (34 : Int32) = nI 34 from rfl, rd36 (show 34 < 36 by omega), wr36 (show 34 < 36 by omega), sm_up, e1]
      have t2 := Option.some.inj t1
      have w0 : w = 0 := (congrArg Prod.fst t2).symm
      have tm := congrArg Prod.snd t2
      dsimp only at tm
      rw [tm, et, w0, show nI p + (2 : Int32) = nI (p + 2) from nI_add p 2]
      have z : va_up u' 16 (va_up (u' 16) 0 0) = u' := by
        have q : va_up (u' 16) 0 0 = u' 16 := by
          rw [h16 w0, up_up]
        rw [q, up_same]
      rw [z]
    · rw [if_neg h42] at t1
      rw [if_neg (show ¬ nI (c p) = (42 : Int32) by rw [show (42 : Int32) = nI 42 from rfl, ceq _ 42 c2 (by omega)]; exact h42)]
      have hl : isLt (c p) = true := by
        rcases hk with hk | ⟨hk, -⟩ | ⟨hk, -⟩
        · exact absurd hk h46
        · exact absurd hk h42
        · exact hk
      have et2 : 2 ≤ tl c p := by unfold tl; rw [if_neg h46, if_neg h42]; split <;> omega
      obtain ⟨d1, d2, d3⟩ := hc (p + 1) (by omega)
      have ewho : nI (c p) - 65 = nI (tWho c p) := by
        rw [(isV_c c1 c2).2 hl]
        unfold tWho
        rw [if_pos hl]
      simp only [nI_1, rd60 (show p + 1 < 60 by omega), d3, Option.bind_some, ewho]
      by_cases h45 : c (p + 1) = 45
      · rw [if_pos h45] at t1
        have et : tl c p = 2 := by unfold tl; rw [if_neg h46, if_neg h42, if_neg (by omega)]
        rw [if_pos (show nI (c (p + 1)) = (45 : Int32) by rw [h45]; rfl), t1, Option.bind_some, Option.bind_some, if_neg (show ¬ nI (c (p + 1)) = (62 : Int32) by rw [h45]; decide), Option.bind_some, et]
        dsimp only
        rw [sm_put, show nI p + (2 : Int32) = nI (p + 2) from nI_add p 2]
      · rw [if_neg h45] at t1
        rw [if_neg (show ¬ nI (c (p + 1)) = (45 : Int32) by rw [show (45 : Int32) = nI 45 from rfl, ceq _ 45 d2 (by omega)]; exact h45)]
        by_cases h62 : c (p + 1) = 62
        · rw [if_pos h62] at t1
          have et : tl c p = 3 := by unfold tl; rw [if_neg h46, if_neg h42, if_pos h62]
          obtain ⟨f1, f2, f3⟩ := hc (p + 2) (by omega)
          have hdg : isDg (c (p + 2)) = true := by
            rcases hk with hk | ⟨hk, -⟩ | ⟨-, hk | hk | ⟨-, hk⟩⟩
            · exact absurd hk h46
            · exact absurd hk h42
            · exact absurd hk h45
            · rw [h62] at hk; exact absurd hk (by decide)
            · exact hk
          have ew : nI (c (p + 2)) - 48 = nI (tWhat c p) := by
            rw [(isG_c f1 f2).2 hdg]
            unfold tWhat
            rw [if_neg h46, if_neg h42, if_neg h45, if_pos h62]
          have p62 : nI (c (p + 1)) = (62 : Int32) := by rw [h62]; rfl
          rw [if_pos p62, show nI p + (2 : Int32) = nI (p + 2) from nI_add p 2, rd60 (show p + 2 < 60 by omega), f3, Option.bind_some, ew, t1, Option.bind_some, Option.bind_some, if_pos p62, Option.bind_some, et]
          dsimp only
          rw [sm_put, show nI p + (3 : Int32) = nI (p + 3) from nI_add p 3]
        · rw [if_neg h62] at t1
          have et : tl c p = 2 := by unfold tl; rw [if_neg h46, if_neg h42, if_neg h62]
          have n62 : ¬ nI (c (p + 1)) = (62 : Int32) := by rw [show (62 : Int32) = nI 62 from rfl, ceq _ 62 d2 (by omega)]; exact h62
          have hnt : isNt (c (p + 1)) = true := by
            rcases hk with hk | ⟨hk, -⟩ | ⟨-, hk | hk | ⟨hk, -⟩⟩
            · exact absurd hk h46
            · exact absurd hk h42
            · exact absurd hk h45
            · exact hk
            · exact absurd hk h62
          have ew : nI (c (p + 1)) - 97 = nI (tWhat c p) := by
            rw [(isN_c d1 d2).2 hnt]
            unfold tWhat
            rw [if_neg h46, if_neg h42, if_neg h45, if_neg h62]
          rw [if_neg n62, ew, t1, Option.bind_some, Option.bind_some, if_neg n62, Option.bind_some, et]
          dsimp only
          rw [sm_put, show nI p + (2 : Int32) = nI (p + 2) from nI_add p 2]
