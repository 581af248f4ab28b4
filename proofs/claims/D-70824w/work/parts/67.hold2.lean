/-! OPERATION: hold, the reference -/
set_option maxRecDepth 100000
theorem rs_sub {a b : Nat} (ha : a < 10) (hb : b < 10) : (if (nI a - nI b) ≤ 0 then some (0 : Int32) else some (nI a - nI b)) = some (nI (a - b)) := by
  have : ∀ a b : Fin 10, (if (nI a.val - nI b.val) ≤ 0 then some (0 : Int32) else some (nI a.val - nI b.val)) = some (nI (a.val - b.val)) := by decide +kernel
  exact this ⟨a, ha⟩ ⟨b, hb⟩
theorem rested_eq {s R : Nat → Nat} (hs : ∀ k, s k < 10) {r k : Nat} (hr : r < 1000) (hk : k < 3) : fX2_rested (nI r) (nI k) (nI (s k)) (nI (R k)) = some (nI (tT s R r k)) := by
  unfold fX2_rested
  have e : am_it (fX2_rested_L6 (nI r) (nI k) (nI (s k)) (nI (R k))) am_fuel ((0 : Int32), (0 : Int32)) = some (nI (tT s R r k), nI 3) := by
    refine it_run0 (F := fX2_rested_L6 (nI r) (nI k) (nI (s k)) (nI (R k))) (fun i => (nI (fo (fun i x => 10 * x + eT s R r k i) 0 i), nI i)) 3 (by omega) (fun i hi rec => ?_) (fun rec => ?_)
    · unfold fX2_rested_L6
      simp only [if_neg (n3 hi), digit2 hr hi, rs_sub (dg_lt hr i) (hs k), nI_add1]
      by_cases e : i = k
      · rw [if_pos (by rw [e]), Option.bind_some, ten_add]
        show _ = rec (nI (10 * fo _ 0 i + eT s R r k i), _)
        rw [show eT s R r k i = R k from if_pos e]
      · rw [if_neg (by rw [lit_eq (by omega) (by omega)]; exact e), Option.bind_some, ten_add]
        show _ = rec (nI (10 * fo _ 0 i + eT s R r k i), _)
        rw [show eT s R r k i = dg r i - s k from if_neg e]
    · unfold fX2_rested_L6
      simp only [if_pos p3]
      rfl
  rw [e, Option.bind_some]
def mk (c : Nat → Int32) (b r : Nat) : Prop := ¬ c (1000 * (b % 10) + r) = 0
/-- what the ring says before the beat a is gone through -/
def hI (v : Nat → Nat) (X a m : Nat) (c : Nat → Int32) : Prop := X ≤ 99 ∧ m ≤ X ∧ (∀ b r, a ≤ b → b < a + 10 → r < 1000 → mk c b r → min 99 (b + v r) ≤ X ∧ min 99 b ≤ m) ∧ (m = X ∨ ∃ b r, a ≤ b ∧ b < a + 10 ∧ r < 1000 ∧ mk c b r ∧ X ≤ min 99 (b + v r))
theorem mk_set {c : Nat → Int32} {b r b' r' : Nat} (hr : r < 1000) (hr' : r' < 1000) (h : mk (va_up c (1000 * (b' % 10) + r') 1) b r) : (b % 10 = b' % 10 ∧ r = r') ∨ mk c b r := by
  by_cases e : 1000 * (b % 10) + r = 1000 * (b' % 10) + r'
  · left; omega
  · right
    unfold mk at *
    simpa [va_up, e] using h
theorem mk_keep {c : Nat → Int32} {b r : Nat} (i : Nat) (h : mk c b r) : mk (va_up c i 1) b r := by
  unfold mk at *
  by_cases e : 1000 * (b % 10) + r = i
  · subst e; simp [va_up]
  · simpa [va_up, e] using h
theorem mk_at (c : Nat → Int32) (b r : Nat) : mk (va_up c (1000 * (b % 10) + r) 1) b r := by
  unfold mk
  simp [va_up]
theorem hI_set {s R v : Nat → Nat} (hR : ∀ k, R k < 10) {X a m : Nat} {c : Nat → Int32} (h : hI v X a m c) {l : Nat} (hl : l < 1000) (hm : mk c a l) {k : Nat} (hs : 1 ≤ s k ∧ s k < 10) (hd : dg l k = 0) (hb : bt s R v l k ≤ v l) : hI v X a (max m (min 99 (a + s k))) (va_up c (1000 * ((a + s k) % 10) + tT s R l k) 1) := by
  obtain ⟨h0, h1, h2, h3⟩ := h
  have ht := tT_lt (s := s) hR hl k
  have hb' : min 99 (s k + v (tT s R l k)) ≤ v l := by
    unfold bt at hb
    rw [if_pos hd] at hb
    exact hb
  obtain ⟨g1, g2⟩ := h2 a l (by omega) (by omega) hl hm
  refine ⟨h0, by omega, fun b r b1 b2 hr hmk => ?_, ?_⟩
  · rcases mk_set hr ht hmk with ⟨y1, y2⟩ | y
    · have : b = a + s k := by omega
      subst this
      subst y2
      omega
    · have := h2 b r b1 b2 hr y
      omega
  · rcases h3 with y | ⟨b, r, b1, b2, hr, y1, y2⟩
    · left; omega
    · exact Or.inr ⟨b, r, b1, b2, hr, mk_keep _ y1, y2⟩
theorem ix10 {a r : Nat} (ha : a < 2 ^ 31) : (1000 : Int32) * jv_rem (nI a) (10 : Int32) + nI r = nI (1000 * (a % 10) + r) := by
  have er : jv_rem (nI a) 10 = nI (a % 10) := pk_rem (a := a) (d := 10) ha (by omega) (by omega)
  rw [er, show (1000 : Int32) = nI 1000 from rfl, pk_mul, nI_add]
theorem up_19 (M : am_M) (i : Nat) (v : Int32) : am_up M 1 19 i v 1 19 = va_up (M 1 19) i v := by simp [am_up, va_up]
/-- the acts from one row -/
theorem act_loop {S Q : Nat} (hS : S < 1000) (hQ : Q < 1000) (hs : ∀ k, k < 3 → 1 ≤ dg S k) {v : Nat → Nat} (hf : fix (dg S) (dg Q) v) {X a : Nat} (ha : a < 99) {l : Nat} (hl : l < 1000) (x y : Int32) (N N' : am_M) : ∀ (n i m : Nat) (M : am_M), i + n = 3 → hI v X a m (M 1 19) → mk (M 1 19) a l → ∀ f, n < f → ∃ m' j M', am_it (fX2_heldBy_L81 (nI S) (nI Q) (x, nI a, N) (y, nI l, N')) f (nI m, nI i, M) = some (nI m', j, M') ∧ fr 1 19 M M' ∧ hI v X a m' (M' 1 19) ∧ (∀ b r, mk (M 1 19) b r → mk (M' 1 19) b r) ∧ (∀ k, i ≤ k → k < 3 → dg l k = 0 → mk (M' 1 19) (a + dg S k) (tT (dg S) (dg Q) l k)) ∧ (∀ r, r < 1000 → mk (M' 1 19) a r → mk (M 1 19) a r) := by
  intro n
  induction n with
  | zero =>
    intro i m M hi h hm f hlt
    obtain ⟨f, rfl⟩ : ∃ g, f = g + 1 := ⟨f - 1, by omega⟩
    have : i = 3 := by omega
    subst this
    refine ⟨m, nI 3, M, ?_, fr_rf _ _ _, h, fun _ _ z => z, fun k h1 h2 => by omega, fun _ _ z => z⟩
    show fX2_heldBy_L81 _ _ _ _ (am_it _ f) _ = _
    unfold fX2_heldBy_L81
    simp only [if_pos p3]
  | succ n ih =>
    intro i m M hi h hm f hlt
    obtain ⟨f, rfl⟩ : ∃ g, f = g + 1 := ⟨f - 1, by omega⟩
    have hi3 : i < 3 := by omega
    have hm' : ¬ M 1 19 (1000 * (a % 10) + l) = 0 := hm
    have hsi := hs i hi3
    have hsi2 := dg_lt hS i
    have hx := h.1
    have hmx := h.2.1
    by_cases c : dg l i = 0
    · have ht := tT_lt (s := dg S) (fun k => dg_lt hQ k) hl i
      have h' := hI_set (s := dg S) (R := dg Q) (fun k => dg_lt hQ k) h hl hm ⟨hsi, hsi2⟩ c ((hf.1 l hl).2 i hi3)
      obtain ⟨m', j, M', e, q1, q2, q3, q4, q5⟩ := ih (i + 1) (max m (min 99 (a + dg S i))) (am_up M 1 19 (1000 * ((a + dg S i) % 10) + tT (dg S) (dg Q) l i) 1) (by omega) (by rw [up_19]; exact h') (by rw [up_19]; exact mk_keep _ hm) f (by omega)
      rw [up_19] at q3 q5
      refine ⟨m', j, M', ?_, fr_tr (fr_up _ _ _ _ _) q1, q2, fun b r z => q3 b r (mk_keep _ z), fun k h1 h2 h3 => ?_, fun r hr z => ?_⟩
      · show fX2_heldBy_L81 _ _ _ _ (am_it _ f) _ = _
        rw [fX2_heldBy_L81]
        simp only [if_neg (n3 hi3), ix10 (show a < 2 ^ 31 by omega), digit2 hl hi3, digit2 hS hi3, digit2 hQ hi3, nI_add, c, nI_add1, ix10 (show a + dg S i < 2 ^ 31 by omega)]
        rw [rd_n (by omega) (by omega), Option.bind_some, if_neg hm', if_pos (show nI 0 = 0 from rfl), rested_eq (fun k => dg_lt hS k) hl hi3]
        have e1 : (if nI (a + dg S i) ≤ (99 : Int32) then some (nI (a + dg S i)) else some (99 : Int32)) = some (nI (min 99 (a + dg S i))) := by
          show (if nI (a + dg S i) ≤ nI 99 then some (nI (a + dg S i)) else some (nI 99)) = some (nI (min 99 (a + dg S i)))
          by_cases z : a + dg S i ≤ 99
          · rw [if_pos ((nI_leI (b := 99) (by omega) (by omega)).mpr z), Nat.min_eq_right z]
          · rw [if_neg (fun w => z ((nI_leI (b := 99) (by omega) (by omega)).mp w)), Nat.min_eq_left (by omega)]
        rw [e1, Option.bind_some, Option.bind_some, ix10 (show a + dg S i < 2 ^ 31 by omega), wr_n (by omega) (by omega), Option.bind_some]
        have e2 : (if nI (min 99 (a + dg S i)) ≤ nI m then some (nI m) else some (nI (min 99 (a + dg S i)))) = some (nI (max m (min 99 (a + dg S i)))) := by
          by_cases z : min 99 (a + dg S i) ≤ m
          · rw [if_pos ((nI_leI (by omega) (by omega)).mpr z), Nat.max_eq_left z]
          · rw [if_neg (fun w => z ((nI_leI (by omega) (by omega)).mp w)), Nat.max_eq_right (by omega)]
        rw [e2, Option.bind_some, Option.bind_some]
        exact e
      · by_cases ek : k = i
        · subst ek
          exact q3 _ _ (mk_at _ _ _)
        · exact q4 k (by omega) h2 h3
      · rcases mk_set hr ht (q5 r hr z) with ⟨y1, y2⟩ | w
        · omega
        · exact w
    · obtain ⟨m', j, M', e, q1, q2, q3, q4, q5⟩ := ih (i + 1) m M (by omega) h hm f (by omega)
      refine ⟨m', j, M', ?_, q1, q2, q3, fun k h1 h2 h3 => ?_, q5⟩
      · show fX2_heldBy_L81 _ _ _ _ (am_it _ f) _ = _
        rw [fX2_heldBy_L81]
        have hdl := dg_lt hl i
        have c' : ¬ nI (dg l i) = 0 := by
          rw [show (0 : Int32) = nI 0 from rfl, lit_eq (by omega) (by omega)]; exact c
        simp only [if_neg (n3 hi3), ix10 (show a < 2 ^ 31 by omega), digit2 hl hi3, if_neg c', nI_add1]
        rw [rd_n (by omega) (by omega), Option.bind_some, if_neg hm', Option.bind_some]
        exact e
      · by_cases ek : k = i
        · subst ek; exact absurd h3 c
        · exact q4 k (by omega) h2 h3
theorem mk_clr {c : Nat → Int32} {b r a l : Nat} (hr : r < 1000) (hl : l < 1000) (h : mk c b r) (hn : ¬ (b % 10 = a % 10 ∧ r = l)) : mk (va_up c (1000 * (a % 10) + l) 0) b r := by
  unfold mk at *
  have e : ¬ 1000 * (b % 10) + r = 1000 * (a % 10) + l := by omega
  simpa [va_up, e] using h
theorem mk_clr' {c : Nat → Int32} {b r i : Nat} (h : mk (va_up c i 0) b r) : mk c b r := by
  unfold mk at *
  by_cases e : 1000 * (b % 10) + r = i
  · subst e; simp [va_up] at h
  · simpa [va_up, e] using h
theorem mk_gone (c : Nat → Int32) (a l : Nat) : ¬ mk (va_up c (1000 * (a % 10) + l) 0) a l := by
  unfold mk
  simp [va_up]
theorem hI_clr {s R v : Nat → Nat} (hR : ∀ k, R k < 10) (hs : ∀ k, k < 3 → 1 ≤ s k ∧ s k < 10) (hf : fix s R v) {X a m : Nat} {c : Nat → Int32} (ha : a < 99) (h : hI v X a m c) {l : Nat} (hl : l < 1000) (hk : mk c a l → ∀ k, k < 3 → dg l k = 0 → mk c (a + s k) (tT s R l k)) : hI v X a m (va_up c (1000 * (a % 10) + l) 0) := by
  obtain ⟨h0, h1, h2, h3⟩ := h
  refine ⟨h0, h1, fun b r b1 b2 hr hm => h2 b r b1 b2 hr (mk_clr' hm), ?_⟩
  rcases h3 with y | ⟨b, r, b1, b2, hr, y1, y2⟩
  · exact Or.inl y
  · by_cases e : b % 10 = a % 10 ∧ r = l
    · have eb : b = a := by omega
      have er := e.2
      subst eb
      subst er
      obtain ⟨g1, g2⟩ := h2 b r b1 b2 hr y1
      rcases hf.2 r hr with z | ⟨k, hk3, z⟩
      · left; omega
      · by_cases z0 : v r = 0
        · left; omega
        · right
          have hd : dg r k = 0 := by
            by_cases d : dg r k = 0
            · exact d
            · unfold bt at z
              rw [if_neg d] at z
              omega
          unfold bt at z
          rw [if_pos hd] at z
          have hsk := hs k hk3
          have ht := tT_lt (s := s) hR hr k
          refine ⟨b + s k, tT s R r k, by omega, by omega, ht, mk_clr ht hr (hk y1 k hk3 hd) (by omega), by omega⟩
    · exact Or.inr ⟨b, r, b1, b2, hr, mk_clr hr hl y1 e, y2⟩
theorem row_loop {S Q : Nat} (hS : S < 1000) (hQ : Q < 1000) (hs : ∀ k, k < 3 → 1 ≤ dg S k) {v : Nat → Nat} (hf : fix (dg S) (dg Q) v) {X a : Nat} (ha : a < 99) (x : Int32) (N : am_M) : ∀ (n l m : Nat) (M : am_M), l + n = 1000 → hI v X a m (M 1 19) → (∀ r, r < l → ¬ mk (M 1 19) a r) → ∀ f, n < f → ∃ m' M', am_it (fX2_heldBy_L70 (nI S) (nI Q) (x, nI a, N)) f (nI m, nI l, M) = some (nI m', nI 1000, M') ∧ fr 1 19 M M' ∧ hI v X a m' (M' 1 19) ∧ (∀ r, r < 1000 → ¬ mk (M' 1 19) a r) := by
  intro n
  induction n with
  | zero =>
    intro l m M hl h hn f hlt
    obtain ⟨f, rfl⟩ : ∃ g, f = g + 1 := ⟨f - 1, by omega⟩
    have : l = 1000 := by omega
    subst this
    refine ⟨m, M, ?_, fr_rf _ _ _, h, hn⟩
    show fX2_heldBy_L70 _ _ _ (am_it _ f) _ = _
    unfold fX2_heldBy_L70
    simp only [if_pos (show (1000 : Int32) ≤ nI 1000 by decide)]
  | succ n ih =>
    intro l m M hl h hn f hlt
    obtain ⟨f, rfl⟩ : ∃ g, f = g + 1 := ⟨f - 1, by omega⟩
    have hl1 : l < 1000 := by omega
    have inner : ∃ m' j M', am_it (fX2_heldBy_L81 (nI S) (nI Q) (x, nI a, N) (nI m, nI l, M)) am_fuel (nI m, (0 : Int32), M) = some (nI m', j, M') ∧ fr 1 19 M M' ∧ hI v X a m' (M' 1 19) ∧ (mk (M' 1 19) a l → ∀ k, k < 3 → dg l k = 0 → mk (M' 1 19) (a + dg S k) (tT (dg S) (dg Q) l k)) ∧ (∀ r, r < 1000 → mk (M' 1 19) a r → mk (M 1 19) a r) := by
      by_cases c : mk (M 1 19) a l
      · obtain ⟨m', j, M', e, q1, q2, q3, q4, q5⟩ := act_loop hS hQ hs hf ha hl1 x (nI m) N M 3 0 m M (by omega) h c am_fuel (by decide)
        exact ⟨m', j, M', e, q1, q2, fun _ k hk hd => q4 k (by omega) hk hd, q5⟩
      · refine ⟨m, 0, M, ?_, fr_rf _ _ _, h, fun z => absurd z c, fun _ _ z => z⟩
        have c' : M 1 19 (1000 * (a % 10) + l) = 0 := by
          by_cases z : M 1 19 (1000 * (a % 10) + l) = 0
          · exact z
          · exact absurd z c
        refine it_run0 (F := fX2_heldBy_L81 (nI S) (nI Q) (x, nI a, N) (nI m, nI l, M)) (fun _ => (nI m, (0 : Int32), M)) 0 (by omega) (fun i hi => by omega) (fun rec => ?_)
        unfold fX2_heldBy_L81
        simp only [if_neg (show ¬ (3 : Int32) ≤ 0 by decide), ix10 (show a < 2 ^ 31 by omega)]
        rw [rd_n (by omega) (by omega), Option.bind_some, if_pos c']
    obtain ⟨m1, j, M1, e, q1, q2, q3, q4⟩ := inner
    have h5 := hI_clr (s := dg S) (R := dg Q) (fun k => dg_lt hQ k) (fun k hk => ⟨hs k hk, dg_lt hS k⟩) hf ha q2 hl1 q3
    obtain ⟨m', M', e', p1, p2, p3⟩ := ih (l + 1) m1 (am_up M1 1 19 (1000 * (a % 10) + l) 0) (by omega) (by rw [up_19]; exact h5) (fun r hr => by
      rw [up_19]
      by_cases er : r = l
      · subst er; exact mk_gone _ _ _
      · exact fun z => hn r (by omega) (q4 r (by omega) (mk_clr' z))) f (by omega)
    refine ⟨m', M', ?_, fr_tr (fr_tr q1 (fr_up _ _ _ _ _)) p1, p2, p3⟩
    show fX2_heldBy_L70 _ _ _ (am_it _ f) _ = _
    rw [fX2_heldBy_L70]
    have nl : ¬ (1000 : Int32) ≤ nI l := nI_ge (a := l) (b := 1000) (by omega) (by omega)
    simp only [if_neg nl, ix10 (show a < 2 ^ 31 by omega), nI_add1]
    rw [e, Option.bind_some, wr_n (by omega) (by omega), Option.bind_some]
    exact e'
theorem hI_next {v : Nat → Nat} {X a m : Nat} {c : Nat → Int32} (h : hI v X a m c) (hn : ∀ r, r < 1000 → ¬ mk c a r) : hI v X (a + 1) m c := by
  obtain ⟨h0, h1, h2, h3⟩ := h
  refine ⟨h0, h1, fun b r b1 b2 hr hm => ?_, ?_⟩
  · by_cases e : b = a + 10
    · subst e
      refine absurd ?_ (hn r hr)
      unfold mk at *
      rw [Nat.add_mod_right] at hm
      exact hm
    · exact h2 b r (by omega) (by omega) hr hm
  · rcases h3 with y | ⟨b, r, b1, b2, hr, y1, y2⟩
    · exact Or.inl y
    · have : ¬ b = a := fun z => hn r hr (z ▸ y1)
      exact Or.inr ⟨b, r, by omega, by omega, hr, y1, y2⟩
theorem at_loop {S Q : Nat} (hS : S < 1000) (hQ : Q < 1000) (hs : ∀ k, k < 3 → 1 ≤ dg S k) {v : Nat → Nat} (hf : fix (dg S) (dg Q) v) {X : Nat} : ∀ (n a m : Nat) (M : am_M), a + n = 99 → hI v X a m (M 1 19) → ∀ f, n < f → ∃ M', am_it (fX2_heldBy_L60 (nI S) (nI Q)) f (nI m, nI a, M) = some (nI X, nI 99, M') ∧ fr 1 19 M M' := by
  intro n
  induction n with
  | zero =>
    intro a m M ha h f hlt
    obtain ⟨f, rfl⟩ : ∃ g, f = g + 1 := ⟨f - 1, by omega⟩
    have : a = 99 := by omega
    subst this
    have e : m = X := by
      obtain ⟨h0, h1, h2, h3⟩ := h
      rcases h3 with y | ⟨b, r, b1, b2, hr, y1, y2⟩
      · exact y
      · have := h2 b r b1 b2 hr y1
        omega
    subst e
    refine ⟨M, ?_, fr_rf _ _ _⟩
    show fX2_heldBy_L60 _ _ (am_it _ f) _ = _
    unfold fX2_heldBy_L60
    simp only [if_pos (show (99 : Int32) ≤ nI 99 by decide)]
  | succ n ih =>
    intro a m M ha h f hlt
    obtain ⟨f, rfl⟩ : ∃ g, f = g + 1 := ⟨f - 1, by omega⟩
    obtain ⟨m1, M1, e, q1, q2, q3⟩ := row_loop hS hQ hs hf (show a < 99 by omega) (nI m) M 1000 0 m M (by omega) h (fun r hr => by omega) am_fuel (by decide)
    obtain ⟨M', e', p1⟩ := ih (a + 1) m1 M1 (by omega) (hI_next q2 q3) f (by omega)
    refine ⟨M', ?_, fr_tr q1 p1⟩
    show fX2_heldBy_L60 _ _ (am_it _ f) _ = _
    rw [fX2_heldBy_L60]
    have nl : ¬ (99 : Int32) ≤ nI a := nI_ge (a := a) (b := 99) (by omega) (by omega)
    simp only [if_neg nl, nI_add1]
    have e0 : am_it (fX2_heldBy_L70 (nI S) (nI Q) (nI m, nI a, M)) am_fuel (nI m, (0 : Int32), M) = some (nI m1, nI 1000, M1) := e
    rw [e0, Option.bind_some]
    exact e'
theorem zero_k : ∀ (n i : Nat) (M : am_M), i + n = 10000 → (∀ r, r < i → M 1 19 r = 0) → ∀ f, n < f → ∃ M', am_it fX2_heldBy_L3 f (nI i, M) = some (nI 10000, M') ∧ fr 1 19 M M' ∧ ∀ r, r < 10000 → M' 1 19 r = 0 := by
  intro n
  induction n with
  | zero =>
    intro i M hi h f hf
    obtain ⟨f, rfl⟩ : ∃ g, f = g + 1 := ⟨f - 1, by omega⟩
    have : i = 10000 := by omega
    subst this
    refine ⟨M, ?_, fr_rf _ _ _, h⟩
    show fX2_heldBy_L3 (am_it _ f) _ = _
    unfold fX2_heldBy_L3
    simp only [if_pos (show (10000 : Int32) ≤ nI 10000 by decide)]
  | succ n ih =>
    intro i M hi h f hf
    obtain ⟨f, rfl⟩ : ∃ g, f = g + 1 := ⟨f - 1, by omega⟩
    obtain ⟨M', e, q1, q2⟩ := ih (i + 1) (am_up M 1 19 i 0) (by omega) (fun r hr => by
      by_cases c : r = i
      · subst c; simp [am_up, va_up]
      · have := h r (by omega)
        simpa [am_up, va_up, c] using this) f (by omega)
    refine ⟨M', ?_, fr_tr (fr_up _ _ _ _ _) q1, q2⟩
    show fX2_heldBy_L3 (am_it _ f) _ = _
    rw [fX2_heldBy_L3]
    have nl : ¬ (10000 : Int32) ≤ nI i := nI_ge (a := i) (b := 10000) (by omega) (by omega)
    simp only [if_neg nl, nI_add1]
    rw [wr_n (by omega) (by omega), Option.bind_some]
    exact e
theorem dg_0 (k : Nat) : dg 0 k = 0 := by
  unfold dg
  by_cases h : k = 0
  · rw [if_pos h]
  · rw [if_neg h]
    by_cases h1 : k = 1
    · rw [if_pos h1]
    · rw [if_neg h1]
theorem held_eq {S Q : Nat} (hS : S < 1000) (hQ : Q < 1000) (hs : ∀ k, k < 3 → 1 ≤ dg S k) {v : Nat → Nat} (hf : fix (dg S) (dg Q) v) {k : Nat} (hk : k < 3) (M : am_M) : ∃ M', fX2_heldBy M (nI k) (nI S) (nI Q) = some (nI (bt (dg S) (dg Q) v 0 k), M') ∧ fr 1 19 M M' := by
  obtain ⟨M1, e1, f1, z1⟩ := zero_k 10000 0 M (by omega) (fun r hr => by omega) am_fuel (by decide)
  have ht := tT_lt (s := dg S) (fun k => dg_lt hQ k) (show 0 < 1000 by omega) k
  have h1 := hs k hk
  have h2 := dg_lt hS k
  have hb : bt (dg S) (dg Q) v 0 k = min 99 (dg S k + v (tT (dg S) (dg Q) 0 k)) := if_pos (dg_0 k)
  have hi : hI v (bt (dg S) (dg Q) v 0 k) 1 (dg S k) (am_up M1 1 19 (1000 * (dg S k % 10) + tT (dg S) (dg Q) 0 k) 1 1 19) := by
    rw [up_19, hb]
    refine ⟨by omega, by omega, fun b r b1 b2 hr hm => ?_, Or.inr ⟨dg S k, _, by omega, by omega, ht, mk_at _ _ _, by omega⟩⟩
    rcases mk_set hr ht hm with ⟨y1, y2⟩ | y
    · have : b = dg S k := by omega
      subst this
      subst y2
      omega
    · exact absurd (z1 _ (by omega)) y
  obtain ⟨M', e', f'⟩ := at_loop hS hQ hs hf 98 1 (dg S k) _ (by omega) hi am_fuel (by decide)
  refine ⟨M', ?_, fr_tr (fr_tr f1 (fr_up _ _ _ _ _)) f'⟩
  unfold fX2_heldBy
  have e0 : am_it fX2_heldBy_L3 am_fuel ((0 : Int32), M) = some (nI 10000, M1) := e1
  rw [e0, Option.bind_some, digit2 hS hk, digit2 hQ hk, show (0 : Int32) = nI 0 from rfl, rested_eq (fun k => dg_lt hS k) (by omega) hk, Option.bind_some]
  have ei : (1000 : Int32) * nI (dg S k) + nI (tT (dg S) (dg Q) 0 k) = nI (1000 * (dg S k % 10) + tT (dg S) (dg Q) 0 k) := by
    rw [show (1000 : Int32) = nI 1000 from rfl, pk_mul, nI_add, Nat.mod_eq_of_lt h2]
  rw [ei, wr_n (by omega) (by omega), Option.bind_some]
  have e2 : am_it (fX2_heldBy_L60 (nI S) (nI Q)) am_fuel (nI (dg S k), (1 : Int32), am_up M1 1 19 (1000 * (dg S k % 10) + tT (dg S) (dg Q) 0 k) (vp_nar .boolean (1 : Int32))) = some (nI (bt (dg S) (dg Q) v 0 k), nI 99, M') := e'
  rw [e2, Option.bind_some]
