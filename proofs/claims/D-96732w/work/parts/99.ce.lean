/-! PLAIN LAW: mix. Own text. -/
set_option maxRecDepth 100000
theorem mix_l {U : XS} {V : MS} {f0 f1 : Nat → Bool} (hb : BW U V f0 f1) {N : Nat} (hN : 2000 ≤ N) {k : Nat} (hk : k ≤ 99) : ∀ (n i : Nat) (b b' : Int) (vb vb' : Int32), i ≤ 13 → 13 - i < n → ((b = -2 ∧ b' = 0 ∧ vb' = 99 ∧ i = 0) ∨ (b = b' ∧ vb = vb' ∧ 0 ≤ b ∧ b ≤ 13 ∧ 1 ≤ i)) → ∃ r, x_mix_b50 N (iz k) n U (iz b) vb (iz i) = some (r, U) ∧ m_mix_b64 N (iz k) n V (iz b') vb' (iz i) = some (r, V) := by
  intro n
  induction n with
  | zero => intro i b b' vb vb' h1 h2; omega
  | succ n ih =>
    intro i b b' vb vb' h1 h2 inv
    rw [x_mix_b50, m_mix_b64]
    by_cases c : i = 13
    · subst c
      rcases inv with ⟨-, -, -, e⟩ | ⟨rfl, rfl, -⟩
      · omega
      · exact ⟨iz b, iteTE (by decide) rfl, iteTE (by decide) rfl⟩
    have cx : ¬ (12 : Int32) < iz i := by rw [show (12 : Int32) = iz 12 from rfl, iz_lt (by omega)]; omega
    have cm : ¬ (13 : Int32) ≤ iz i := by rw [show (13 : Int32) = iz 13 from rfl, iz_le (by omega)]; omega
    have ni : iz i + 1 = iz ((i + 1 : Nat) : Int) := by rw [show (1 : Int32) = iz 1 from rfl, iz_add]; rfl
    obtain ⟨t, t1, t2, t3⟩ := best_iz hb hN (q := i) (k := k) (by omega) hk
    obtain ⟨v, v1, v2, v3⟩ := succ_iz hb hN (a := t) (k := k) (by omega) (iz i)
    simp only [nmE]
    rw [ni]
    rcases inv with ⟨rfl, rfl, rfl, rfl⟩ | ⟨rfl, rfl, b0, b1, i1⟩
    · have lt : v < 99 := by
        have e12 : (12 : Int32) - iz ((0 : Nat) : Int) = iz 12 := rfl
        rw [e12, show (0 : Int32) = iz 0 from rfl, iz_add, iz_add, iz_add] at v3
        rcases v3 with e | e | e | e <;> rw [e] <;> decide
      obtain ⟨r, r1, r2⟩ := ih 1 0 0 v v (by omega) (by omega) (Or.inr ⟨rfl, rfl, by omega, by omega, by omega⟩)
      exact ⟨r, iteFE cx (bindE t2 (bindE v1 (iteTE (by decide) r1))), iteFE cm (bindE t3 (bindE v2 (iteTE lt r2)))⟩
    · have bb : ¬ iz b < 0 := by rw [show (0 : Int32) = iz 0 from rfl, iz_lt (by omega)]; omega
      by_cases w : v < vb
      · obtain ⟨r, r1, r2⟩ := ih (i + 1) i i v v (by omega) (by omega) (Or.inr ⟨rfl, rfl, by omega, by omega, by omega⟩)
        exact ⟨r, iteFE cx (bindE t2 (bindE v1 (iteFE bb (iteTE w r1)))), iteFE cm (bindE t3 (bindE v2 (iteTE w r2)))⟩
      · obtain ⟨r, r1, r2⟩ := ih (i + 1) b b vb vb (by omega) (by omega) (Or.inr ⟨rfl, rfl, by omega, by omega, by omega⟩)
        exact ⟨r, iteFE cx (bindE t2 (bindE v1 (iteFE bb (iteFE w r1)))), iteFE cm (bindE t3 (bindE v2 (iteFE w r2)))⟩
theorem law_mix {X : XS} {M : MS} (h : R X M) {N : Nat} (hN : 20000 ≤ N) (p w v : Int32) : same (x_mix N X p w v) (m_mix N M p w v) := by
  obtain ⟨z, hz, rfl⟩ := izE p
  obtain ⟨r, hr, rfl⟩ := izE w
  obtain ⟨k, hk, rfl⟩ := izE v
  have n9 := h.1.1.2
  unfold x_mix m_mix
  by_cases c : ¬ (0 ≤ z ∧ z ≤ 5)
  · exact ⟨_, _, _, bindE (shelfF hz c) (iteTE rfl rfl), bindE (shelfF hz c) (iteTE rfl rfl), h⟩
  replace c := Decidable.not_not.mp c
  have w1 := x_isPost_iz h.1.1.1 h.1.1.2 hr
  have w2 := m_isPost_iz (M := M) h.1.1.2 hr
  by_cases cp : ¬ (0 ≤ r ∧ r < mi M 0)
  · rw [decide_eq_false cp] at w1 w2
    exact ⟨_, _, _, bindE (shelfT c) (iteFE b2iT (bindE w1 (iteTE rfl rfl))), bindE (shelfT c) (iteFE b2iT (bindE w2 (iteTE rfl rfl))), h⟩
  replace cp := Decidable.not_not.mp cp
  rw [decide_eq_true cp] at w1 w2
  have f2 : m_within (iz k) 1 99 = some (decide (1 ≤ k ∧ k ≤ 99)) := by rw [show (1 : Int32) = iz 1 from rfl, show (99 : Int32) = iz 99 from rfl, m_within_iz (by omega)]
  have f1 : x_areNeeded (iz k) = some (decide (1 ≤ k ∧ k ≤ 99)) := by
    unfold x_areNeeded
    exact bindE f2 rfl
  by_cases ck : ¬ (1 ≤ k ∧ k ≤ 99)
  · rw [decide_eq_false ck] at f1 f2
    exact ⟨_, _, _, bindE (shelfT c) (iteFE b2iT (bindE w1 (iteFE b2iT (bindE f1 (iteTE rfl rfl))))), bindE (shelfT c) (iteFE b2iT (bindE w2 (iteFE b2iT (bindE f2 (iteTE rfl rfl))))), h⟩
  replace ck := Decidable.not_not.mp ck
  rw [decide_eq_true ck] at f1 f2
  obtain ⟨s, rfl⟩ : ∃ s : Nat, z = s := ⟨z.toNat, by omega⟩
  obtain ⟨k, rfl⟩ : ∃ k' : Nat, k = k' := ⟨k.toNat, by omega⟩
  rcases lay_both h hN (s := s) (by omega) (p := r) (by omega) with ⟨e, he, l1, l2⟩ | ⟨U, S, V, g0, g1, l1, l2, l3, l4, l5, l6, l7⟩
  · have ne : ¬ (0 : Int32) ≤ iz e := by rw [show (0 : Int32) = iz 0 from rfl, iz_le (by omega)]; omega
    exact ⟨_, _, _, bindE (shelfT c) (iteFE b2iT (bindE w1 (iteFE b2iT (bindE f1 (iteFE b2iT (b2E l1 (iteFE ne rfl))))))), bindE (shelfT c) (iteFE b2iT (bindE w2 (iteFE b2iT (bindE f2 (iteFE b2iT (bindE l2 (iteFE ne rfl))))))), h.scr ((xs.rf X).setI rfl _) (sm.rf M)⟩
  obtain ⟨y, y1, y2⟩ := mix_l l7 (N := N) (by omega) (k := k) (by omega) N 0 (-2) 0 0 99 (by omega) (by omega) (Or.inl ⟨rfl, rfl, rfl, rfl⟩)
  exact ⟨y, U, V, bindE (shelfT c) (iteFE b2iT (bindE w1 (iteFE b2iT (bindE f1 (iteFE b2iT (b2E l1 (iteTE (by decide) y1))))))), bindE (shelfT c) (iteFE b2iT (bindE w2 (iteFE b2iT (bindE f2 (iteFE b2iT (bindE l2 (iteTE (by decide) (bindE l3 (bindE l4 y2))))))))), h.scr l5 l6⟩
