/-! PLAIN LAW: hang. Own text. -/
set_option maxRecDepth 100000
def far (M : MS) (p c : Int) : Int := ((mx M p - c % 16).natAbs : Int) + (my M p - c / 16).natAbs
theorem far_R {X : XS} {M : MS} (h : RP X M) {p c : Int} (hp : -1 ≤ p ∧ p < mi M 0) (hc : 0 ≤ c ∧ c < 256) : 0 ≤ far M p c ∧ far M p c ≤ 30 := by
  have a := mx_R h hp
  have b := my_R h hp
  unfold far
  omega
theorem c16 {c : Int} (hc : 0 ≤ c ∧ c < 256) : jrem (iz c) 16 = iz (c % 16) ∧ iz c / 16 = iz (c / 16) := by
  rw [show (16 : Int32) = iz 16 from rfl]
  exact ⟨jrem_iz (by omega), iz_div (by omega)⟩
theorem m_far {X : XS} {M : MS} (h : RP X M) {p c : Int} (hp : -1 ≤ p ∧ p < mi M 0) (hc : 0 ≤ c ∧ c < 256) : m_apartFrom M (iz p) (iz c) = some (iz (far M p c)) := by
  have a := mx_R h hp
  have b := my_R h hp
  unfold m_apartFrom far
  refine bindE (m_xOf_iz h hp) (bindE (m_yOf_iz h hp) ?_)
  rw [(c16 hc).1, (c16 hc).2, iz_sub, iz_sub, jabs_iz (by omega), jabs_iz (by omega), iz_add]
theorem x_far {X : XS} {M : MS} (h : RP X M) {p c : Int} {a : Nat} {o : XO} (hp : 0 ≤ p ∧ p < mi M 0) (hc : 0 ≤ c ∧ c < 256) (g : getO X a 3 = some o) (g1 : o.2.1 0 = iz (mx M p)) (g2 : o.2.1 1 = iz (my M p)) : p_farFrom X a (iz (c % 16)) (iz (c / 16)) = some (iz (far M p c)) := by
  have a := mx_R h (p := p) (by omega)
  have b := my_R h (p := p) (by omega)
  unfold p_farFrom far
  refine bindE g (bindE g ?_)
  rw [g1, g2, iz_sub, iz_sub, jabs_iz (by omega), jabs_iz (by omega), iz_add]
theorem near_l {X : XS} {M : MS} (h : RP X M) (N : Nat) {c : Int} (hc : 0 ≤ c ∧ c < 256) : ∀ (n i : Nat) (d : Int), 1 ≤ i → (i : Int) ≤ mi M 0 → (0 ≤ d ∧ d ≤ 30) → mi M 0 - i < n → ∃ d', x_nearestPost_b6 N X (iz (c % 16)) (iz (c / 16)) n (iz d) (iz i) = some (iz d') ∧ m_nearest_b4 N M (iz c) n (iz d) (iz i) = some (iz d') ∧ 0 ≤ d' ∧ d' ≤ 30 := by
  have k9 := h.1.2
  intro n
  induction n with
  | zero => intro i d h1 h2 h3 h4; omega
  | succ n ih =>
    intro i d h1 h2 h3 h4
    rw [x_nearestPost_b6, m_nearest_b4]
    have e1 : (X.1 1 ≤ iz i) ↔ mi M 0 ≤ i := by rw [h.1.1, iz_le (by omega)]
    have e2 : (M.1 0 ≤ iz i) ↔ mi M 0 ≤ i := by rw [mi_eq, iz_le (by omega)]
    by_cases q : mi M 0 ≤ i
    · refine ⟨d, iteTE (e1.mpr q) ?_, iteTE (e2.mpr q) rfl, h3⟩
      rw [show (0 : Int32) = iz 0 from rfl, jmax_iz (by omega), show max 0 d = d by omega]
    have hi : 0 ≤ (i : Int) ∧ (i : Int) < mi M 0 := by omega
    obtain ⟨a, o, q1, q2, q3, q4, q5, -⟩ := getP h hi
    rw [Int.toNat_natCast] at q1
    have f1 := x_far h hi hc q2 q4 q5
    have f2 := m_far h (p := i) (by omega) hc
    have fr := far_R h (p := i) (by omega) hc
    have ni : iz i + 1 = iz ((i + 1 : Nat) : Int) := by rw [show (1 : Int32) = iz 1 from rfl, iz_add]; rfl
    obtain ⟨d', g1, g2, g3⟩ := ih (i + 1) (min d (far M i c)) (by omega) (by omega) (by omega) (by omega)
    have q1' : X.2.2.1 0 (iz (i : Int)).toNatClampNeg = some a := by rw [iz_clampN (by omega)]; exact q1
    refine ⟨d', iteFE (fun z => q (e1.mp z)) (iteFE (by rw [show (0 : Int32) = iz 0 from rfl, iz_lt (by omega)]; omega) (chkE rfl (by omega) (bindE q1' (bindE q2 (bindE f1 ?_))))), iteFE (fun z => q (e2.mp z)) (iteFE (by rw [show (0 : Int32) = iz 0 from rfl, iz_eq (by omega)]; omega) (bindE f2 ?_)), g3⟩
    · by_cases w : d ≤ far M i c
      · refine iteTE ((iz_le (by omega)).mpr w) ?_
        rw [nm_eq, ni, ← g1, show min d (far M i c) = d by omega]
      · refine iteFE (fun z => w ((iz_le (by omega)).mp z)) ?_
        unfold x_nearestPost_b35
        refine chkE rfl (by omega) (bindE q1' (bindE q2 (bindE f1 ?_)))
        rw [nm_eq, ni, ← g1, show min d (far M i c) = far M i c by omega]
    · rw [nm_eq, nm_eq, jmin_iz (by omega), ni]
      exact g2
theorem near {X : XS} {M : MS} (h : RP X M) {N : Nat} (hN : 20 ≤ N) {c : Int} (hc : 0 ≤ c ∧ c < 256) : ∃ d', x_nearestPost N X (iz (c % 16)) (iz (c / 16)) = some (iz d') ∧ m_nearest N M (iz c) = some (iz d') ∧ 0 ≤ d' ∧ d' ≤ 30 := by
  have k9 := h.1.2
  obtain ⟨n, rfl⟩ : ∃ n, N = n + 1 := ⟨N - 1, by omega⟩
  unfold x_nearestPost m_nearest
  rw [x_nearestPost_b6, m_nearest_b4]
  have e1 : (X.1 1 ≤ 0) ↔ mi M 0 ≤ 0 := by rw [h.1.1, show (0 : Int32) = iz 0 from rfl, iz_le (by omega)]
  have e2 : (M.1 0 ≤ 0) ↔ mi M 0 ≤ 0 := by rw [mi_eq, show (0 : Int32) = iz 0 from rfl, iz_le (by omega)]
  by_cases q : mi M 0 ≤ 0
  · exact ⟨0, iteTE (e1.mpr q) rfl, iteTE (e2.mpr q) rfl, by omega⟩
  have hi : 0 ≤ (0 : Int) ∧ (0 : Int) < mi M 0 := by omega
  obtain ⟨a, o, q1, q2, q3, q4, q5, -⟩ := getP h hi
  have f1 := x_far h hi hc q2 q4 q5
  have f2 := m_far h (p := 0) (by omega) hc
  have fr := far_R h (p := 0) (by omega) hc
  obtain ⟨d', g1, g2, g3⟩ := near_l h (n + 1) hc n 1 (far M 0 c) (by omega) (by omega) (by omega) (by omega)
  refine ⟨d', iteFE (fun z => q (e1.mp z)) (iteTE (by decide) ?_), iteFE (fun z => q (e2.mp z)) (iteTE rfl (bindE f2 g2)), g3⟩
  unfold x_nearestPost_b35
  exact chkE (a := 0) rfl (by omega) (bindE q1 (bindE q2 (bindE f1 g1)))
theorem hang_l {X : XS} {M : MS} (h : RP X M) {N : Nat} (hN : 300 ≤ N) {p w : Int} (hp : 0 ≤ p ∧ p ≤ 30) (hw : -2147483648 ≤ w ∧ w ≤ 2147483647) : ∀ (n c : Nat) (x1 x2 m1 m2 : Int), c ≤ 256 → 256 - c < n → ((x1 = -2 ∧ x2 = 0 ∧ m1 = 0 ∧ m2 = -1 ∧ (c : Int) ≤ ma M 5 1 * 16 + ma M 5 0) ∨ (x1 = m1 ∧ x2 = m2 ∧ (0 ≤ m1 ∧ m1 < 256) ∧ 0 ≤ m2 ∧ m2 ≤ 30)) → sameR (x_hang_b30 N X (iz p) (iz w) n (iz x1) (iz x2) (iz c)) (m_hang_b29 N M (iz p) (iz w) n (iz m1) (iz m2) (iz c)) := by
  intro n
  induction n with
  | zero => intro c x1 x2 m1 m2 h1 h2; omega
  | succ n ih =>
    intro c x1 x2 m1 m2 h1 h2 h3
    have gg := h.2.2.1
    rw [x_hang_b30, m_hang_b29]
    have e256 : ((256 : Int32) ≤ iz c) ↔ 256 ≤ c := by rw [show (256 : Int32) = iz 256 from rfl, iz_le (by omega)]; omega
    by_cases q : 256 ≤ c
    · rcases h3 with ⟨-, -, -, -, h3⟩ | ⟨rfl, rfl, -⟩
      · omega
      · by_cases e : iz w = 0
        · exact ⟨_, iteTE (e256.mpr q) (iteTE e rfl), iteTE (e256.mpr q) (iteTE e rfl)⟩
        · exact ⟨_, iteTE (e256.mpr q) (iteFE e rfl), iteTE (e256.mpr q) (iteFE e rfl)⟩
    have hc : 0 ≤ (c : Int) ∧ (c : Int) < 256 := by omega
    have ni : iz c + 1 = iz ((c + 1 : Nat) : Int) := by rw [show (1 : Int32) = iz 1 from rfl, iz_add]; rfl
    have f2 := m_far h (p := -1) (by have := h.1.2; omega) hc
    have fr := far_R h (p := -1) (by have := h.1.2; omega) hc
    have ef : far M (-1) c = ((ma M 5 0 - (c : Int) % 16).natAbs : Int) + (ma M 5 1 - (c : Int) / 16).natAbs := rfl
    obtain ⟨v, v1, v2, v3, v4⟩ := near h (N := N) (by omega) hc
    have ex : (jabs (iz ((c : Int) % 16) - X.1 2)) + (jabs (iz ((c : Int) / 16) - X.1 3)) = iz (far M (-1) c) := by
      rw [h.2.1.1, h.2.1.2.1, iz_sub, iz_sub, jabs_iz (by omega), jabs_iz (by omega), iz_add, ef]
      congr 1
      omega
    simp only [nm_eq]
    rw [(c16 hc).1, (c16 hc).2, ex, ni]
    by_cases w1 : far M (-1) c ≤ p
    · have X1 : iz (far M (-1) c) ≤ iz p := (iz_le (by omega)).mpr w1
      have M1 : ¬ iz p < iz (far M (-1) c) := fun z => by have := (iz_lt (by omega)).mp z; omega
      rcases h3 with ⟨rfl, rfl, rfl, rfl, h3⟩ | ⟨rfl, rfl, h4, h5⟩
      · obtain ⟨r, r1, r2⟩ := ih (c + 1) c v c v (by omega) (by omega) (Or.inr ⟨rfl, rfl, by omega, by omega⟩)
        exact ⟨r, iteFE (fun z => q (e256.mp z)) (iteTE X1 (bindE v1 (iteTE (by decide) r1))), iteFE (fun z => q (e256.mp z)) (bindE f2 (iteFE M1 (bindE v2 (iteTE (by rw [iz_lt (by omega)]; omega) (bindE v2 r2)))))⟩
      · by_cases w2 : x2 < v
        · obtain ⟨r, r1, r2⟩ := ih (c + 1) c v c v (by omega) (by omega) (Or.inr ⟨rfl, rfl, by omega, by omega⟩)
          exact ⟨r, iteFE (fun z => q (e256.mp z)) (iteTE X1 (bindE v1 (iteFE (by rw [show (0 : Int32) = iz 0 from rfl, iz_lt (by omega)]; omega) (iteTE (by rw [iz_lt (by omega)]; omega) r1)))), iteFE (fun z => q (e256.mp z)) (bindE f2 (iteFE M1 (bindE v2 (iteTE (by rw [iz_lt (by omega)]; omega) (bindE v2 r2)))))⟩
        · obtain ⟨r, r1, r2⟩ := ih (c + 1) x1 x2 x1 x2 (by omega) (by omega) (Or.inr ⟨rfl, rfl, by omega, by omega⟩)
          exact ⟨r, iteFE (fun z => q (e256.mp z)) (iteTE X1 (bindE v1 (iteFE (by rw [show (0 : Int32) = iz 0 from rfl, iz_lt (by omega)]; omega) (iteFE (by rw [iz_lt (by omega)]; omega) r1)))), iteFE (fun z => q (e256.mp z)) (bindE f2 (iteFE M1 (bindE v2 (iteFE (by rw [iz_lt (by omega)]; omega) r2))))⟩
    · have X1 : ¬ iz (far M (-1) c) ≤ iz p := fun z => w1 ((iz_le (by omega)).mp z)
      have M1 : iz p < iz (far M (-1) c) := (iz_lt (by omega)).mpr (by omega)
      obtain ⟨r, r1, r2⟩ := ih (c + 1) x1 x2 m1 m2 (by omega) (by omega) (by
        rcases h3 with ⟨a1, a2, a3, a4, a5⟩ | h3
        · refine Or.inl ⟨a1, a2, a3, a4, ?_⟩
          have : (c : Int) ≠ ma M 5 1 * 16 + ma M 5 0 := by intro z; omega
          omega
        · exact Or.inr h3)
      exact ⟨r, iteFE (fun z => q (e256.mp z)) (iteFE X1 r1), iteFE (fun z => q (e256.mp z)) (bindE f2 (iteTE M1 r2))⟩
theorem law_hang {X : XS} {M : MS} (h : R X M) {N : Nat} (hN : 300 ≤ N) (p w : Int32) : sameR (x_hang N X p w) (m_hang N M p w) := by
  obtain ⟨p, hp, rfl⟩ := izE p
  obtain ⟨w, hw, rfl⟩ := izE w
  unfold x_hang m_hang
  have w1 : x_in (iz p) 0 30 = some (decide (0 ≤ p ∧ p ≤ 30)) := by rw [show (0 : Int32) = iz 0 from rfl, show (30 : Int32) = iz 30 from rfl, x_in_iz (by omega)]
  have w2 : x_in (iz w) 0 1 = some (decide (0 ≤ w ∧ w ≤ 1)) := by rw [show (0 : Int32) = iz 0 from rfl, show (1 : Int32) = iz 1 from rfl, x_in_iz (by omega)]
  have m1 : m_within (iz p) 0 30 = some (decide (0 ≤ p ∧ p ≤ 30)) := w1
  have m2 : m_within (iz w) 0 1 = some (decide (0 ≤ w ∧ w ≤ 1)) := w2
  by_cases c1 : ¬ (0 ≤ p ∧ p ≤ 30)
  · rw [decide_eq_false c1] at w1 m1
    exact ⟨_, bindE w1 (iteTE rfl rfl), bindE m1 (iteTE rfl rfl)⟩
  replace c1 := Decidable.not_not.mp c1
  rw [decide_eq_true c1] at w1 m1
  by_cases c2 : ¬ (0 ≤ w ∧ w ≤ 1)
  · rw [decide_eq_false c2] at w2 m2
    exact ⟨_, bindE w1 (iteFE b2iT (bindE w2 (iteTE rfl rfl))), bindE m1 (iteFE b2iT (bindE m2 (iteTE rfl rfl)))⟩
  replace c2 := Decidable.not_not.mp c2
  rw [decide_eq_true c2] at w2 m2
  have gg := h.1.2.2.1
  obtain ⟨r, r1, r2⟩ := hang_l h.1 hN c1 hw N 0 (-2) 0 0 (-1) (by omega) (by omega) (Or.inl ⟨rfl, rfl, rfl, rfl, by omega⟩)
  exact ⟨r, bindE w1 (iteFE b2iT (bindE w2 (iteFE b2iT r1))), bindE m1 (iteFE b2iT (bindE m2 (iteFE b2iT r2)))⟩
