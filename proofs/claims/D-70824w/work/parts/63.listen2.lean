/-! OPERATION: listen, the rest -/
set_option maxRecDepth 100000
def fzA (B : Nat → Int32) (i : Nat) : Nat → Int32 := fun h => if h < i then 0 else B h
theorem fzA_25 (B : Nat → Int32) : fzA B 25 = ctA (fun _ => 0) B := by
  funext h
  unfold fzA ctA
  by_cases c : h < 25
  · rw [if_pos c, if_pos c]; rfl
  · rw [if_neg c, if_neg c]
theorem fill0 {M : am_M} {o : Nat → Nat → Int32} : fX0_fill (va_up M 0 o) 0 17 25 (0 : Int32) = some (va_up M 0 (va_up o 17 (ctA (fun _ => 0) (o 17)))) := by
  have z : va_up M 0 o = va_up M 0 (va_up o 17 (fzA (o 17) 0)) := by
    have : fzA (o 17) 0 = o 17 := by funext h; unfold fzA; rw [if_neg (by omega)]
    rw [this, up_same]
  unfold fX0_fill
  rw [z, show (0 : Int32) = nI 0 from rfl, it_run0 (F := fX0_fill_L2 0 17 25 (nI 0)) (fun i => (nI i, va_up M 0 (va_up o 17 (fzA (o 17) i)))) 25 (res := (nI 25, va_up M 0 (va_up o 17 (fzA (o 17) 25)))) (by omega) (fun i hi rec => ?_) (fun rec => ?_), Option.bind_some, fzA_25]
  · unfold fX0_fill_L2
    have nl : ¬ Int32.ofNat 25 ≤ nI i := nI_ge (a := i) (b := 25) hi (by omega)
    simp only [if_neg nl, nI_add1]
    rw [wr_n hi (by omega), Option.bind_some, sm_up, up_up2]
    congr 4
    rw [show va_up o 17 (fzA (o 17) i) 17 = fzA (o 17) i from rfl]
    funext x
    unfold fzA
    by_cases e : x = i
    · subst e; simp [va_up]; rfl
    · have : (x < i + 1) = (x < i) := propext (by omega)
      simp [va_up, e, this]
  · unfold fX0_fill_L2
    simp only [if_pos (show Int32.ofNat 25 ≤ nI 25 by decide)]
theorem most_eq {M : am_M} {o : Nat → Nat → Int32} (hw : wf (M 2)) (h16 : ∀ z, z < 100 → o 16 z = frI (fm (M 2) (z / 10) (z % 10))) {g : Nat} (hg : g < 10) : fX0_mostLeft (va_up M 0 o) (nI g) = some (nI (cs (M 2) g 1000).1, va_up M 0 (va_up o 17 (ctA (cs (M 2) g 1000).2 (o 17)))) := by
  unfold fX0_mostLeft
  rw [fill0, Option.bind_some, most_loop hw h16 hg, Option.bind_some]
theorem fill2 {N : am_M} {u : Nat → Nat → Int32} : am_it fX2_listen_L38 am_fuel ((0 : Int32), va_up N 1 u) = some (nI 25, va_up N 1 (va_up u 21 (ctA (fun _ => 0) (u 21)))) := by
  have z : va_up N 1 u = va_up N 1 (va_up u 21 (fzA (u 21) 0)) := by
    have : fzA (u 21) 0 = u 21 := by funext h; unfold fzA; rw [if_neg (by omega)]
    rw [this, up_same]
  rw [z, ← fzA_25]
  refine it_run0 (F := fX2_listen_L38) (fun i => (nI i, va_up N 1 (va_up u 21 (fzA (u 21) i)))) 25 (by omega) (fun i hi rec => ?_) (fun rec => ?_)
  · unfold fX2_listen_L38
    have nl : ¬ (25 : Int32) ≤ nI i := nI_ge (a := i) (b := 25) hi (by omega)
    simp only [if_neg nl, nI_add1]
    rw [wr_n hi (by omega), Option.bind_some, sm_up, up_up2]
    congr 4
    rw [show va_up u 21 (fzA (u 21) i) 21 = fzA (u 21) i from rfl]
    funext x
    unfold fzA
    by_cases e : x = i
    · subst e; simp [va_up]
    · have : (x < i + 1) = (x < i) := propext (by omega)
      simp [va_up, e, this]
  · unfold fX2_listen_L38
    simp only [if_pos (show (25 : Int32) ≤ nI 25 by decide)]
/-- none is lost, or in every gallery the worst is at least one -/
theorem cs_any (m : Nat → Nat → Int32) (g : Nat) : ∀ n, ((cs m g n).1 = 0 ∧ ∀ c, c < n → lostP m c = false) ∨ (1 ≤ (cs m g n).1 ∧ ∃ c, c < n ∧ lostP m c = true) := by
  intro n
  induction n with
  | zero => exact Or.inl ⟨rfl, fun c hc => by omega⟩
  | succ n ih =>
    show ((cs1 m g n (cs m g n)).1 = 0 ∧ _) ∨ (1 ≤ (cs1 m g n (cs m g n)).1 ∧ _)
    unfold cs1
    by_cases q : lostP m n = true
    · rw [if_pos q]
      right
      refine ⟨?_, n, by omega, q⟩
      exact Nat.le_trans (by omega) (Nat.le_max_right _ _)
    · rw [if_neg q]
      rcases ih with ⟨a1, a2⟩ | ⟨a1, c, hc, a2⟩
      · left
        refine ⟨a1, fun c hc => ?_⟩
        by_cases e : c = n
        · subst e; simpa using q
        · exact a2 c (by omega)
      · exact Or.inr ⟨a1, c, by omega, a2⟩
