/-! PLAIN LAW: round, first, by. Own text. -/
set_option maxRecDepth 100000
theorem long_l {X T T' : XS} {M S S' : MS} {L : Nat} {g : Nat → Int} (h : R X M) (hr : Rnd X M T S L g) (hL : 1 ≤ L) (N : Nat) : ∀ (n k : Nat) (l : Int32), k ≤ L → L - k < n → ∃ v, x_roundLong_b4 N T n l (iz k) = some v ∧ m_oneRound_b4 N S n l (iz k) = some v := by
  intro n
  induction n with
  | zero => intro k l h1 h2; omega
  | succ n ih =>
    intro k l h1 h2
    have L20 := hr.2.2.1
    have hP := (h.scr hr.1 hr.2.1).1
    have i0 : mi S 0 = mi M 0 := sm_mi hr.2.1 rfl
    have ni : iz k + 1 = iz ((k + 1 : Nat) : Int) := by rw [show (1 : Int32) = iz 1 from rfl, iz_add]; rfl
    rw [x_roundLong_b4, m_oneRound_b4, hr.2.2.2.1, hr.2.2.2.2.1]
    by_cases c : L ≤ k
    · exact ⟨l, iteTE (by rw [iz_le (by omega)]; omega) rfl, iteTE (by rw [iz_le (by omega)]; omega) rfl⟩
    have cc : ¬ iz L ≤ iz k := by rw [iz_le (by omega)]; omega
    have g1 := goes_iz hr (T' := T) rfl rfl hL (d := 0) (Or.inl rfl) (k := k) (by omega)
    have g2 := goes_iz hr (T' := T) rfl rfl hL (d := 0) (Or.inl rfl) (k := k + 1) (by omega)
    have q0 : ∀ j, qf g L 0 j = g (j % L) := fun j => if_pos rfl
    have kl1 : (k + 1) % L < L := Nat.mod_lt _ (by omega)
    have a1 : S.2.1 45 (iz k).toNatClampNeg = iz (qf g L 0 k) := by rw [iz_clampN (by omega), (hr.2.2.2.2.2 k (by omega)).2.1, q0, Nat.mod_eq_of_lt (by omega)]
    have jr : jrem (iz k + 1) (iz L) = iz (((k + 1) % L : Nat) : Int) := by rw [ni, jrem_iz (by omega)]; congr 1
    have a2 : S.2.1 45 (jrem (iz k + 1) (iz L)).toNatClampNeg = iz (qf g L 0 (k + 1)) := by rw [jr, iz_clampN (by omega), (hr.2.2.2.2.2 _ kl1).2.1, q0]
    obtain ⟨v, v1, v2⟩ := ih (k + 1) (l + (T.1 5 + iz (dst S (qf g L 0 k) (qf g L 0 (k + 1))))) (by omega) (by omega)
    refine ⟨v, iteFE cc (bindE g1.1 (bindE (by rw [ni]; exact g2.1) (bindE (x_between_iz hP (by omega) (by omega)) ?_))), iteFE cc (chkE rfl (by omega) ?_)⟩
    · rw [nmE, nmE, ni]
      exact v1
    · rw [nz_iz (by omega)]
      refine chkE jr (by omega) (bindE (by rw [a1, a2]; exact m_minutes_iz hP (by omega) (by omega)) ?_)
      rw [nmE, nmE, ni, show S.2.1 5 3 = T.1 5 by rw [hP.2.1.2.2.2, ← ma_eq]]
      exact v2
theorem law_round {X : XS} {M : MS} (h : R X M) {N : Nat} (hN : 100 ≤ N) (p w : Int32) : same (x_round N X p w) (m_round N M p w) := by
  obtain ⟨z, hz, rfl⟩ := izE p
  obtain ⟨q, hq, rfl⟩ := izE w
  unfold x_round m_round
  by_cases c : ¬ (0 ≤ z ∧ z ≤ 5)
  · exact ⟨_, _, _, bindE (shelfF hz c) (iteTE rfl rfl), bindE (shelfF hz c) (iteTE rfl rfl), h⟩
  replace c := Decidable.not_not.mp c
  have w1 : x_in (iz q) 0 1 = some (decide (0 ≤ q ∧ q ≤ 1)) := by rw [show (0 : Int32) = iz 0 from rfl, show (1 : Int32) = iz 1 from rfl, x_in_iz (by omega)]
  have w2 : m_within (iz q) 0 1 = some (decide (0 ≤ q ∧ q ≤ 1)) := w1
  by_cases cp : ¬ (0 ≤ q ∧ q ≤ 1)
  · rw [decide_eq_false cp] at w1 w2
    exact ⟨_, _, _, bindE (shelfT c) (iteFE b2iT (bindE w1 (iteTE rfl rfl))), bindE (shelfT c) (iteFE b2iT (bindE w2 (iteTE rfl rfl))), h⟩
  replace cp := Decidable.not_not.mp cp
  rw [decide_eq_true cp] at w1 w2
  obtain ⟨s, rfl⟩ : ∃ s : Nat, z = s := ⟨z.toNat, by omega⟩
  rcases lay_read h (N := N) (by omega) (s := s) (by omega) with ⟨e, he, l1, l2⟩ | ⟨T, S, L, g, l1, l2, l3, l4⟩
  · have ne : ¬ (0 : Int32) ≤ iz e := by rw [show (0 : Int32) = iz 0 from rfl, iz_le (by omega)]; omega
    exact ⟨_, _, _, bindE (shelfT c) (iteFE b2iT (bindE w1 (iteFE b2iT (b2E l1 (iteFE ne rfl))))), bindE (shelfT c) (iteFE b2iT (bindE w2 (iteFE b2iT (bindE l2 (iteFE ne rfl))))), h.scr ((xs.rf X).setI rfl _) (sm.rf M)⟩
  have fin := h.scr l4.1 l4.2.1
  have q0 : (iz q = 0) ↔ q = 0 := by rw [show (0 : Int32) = iz 0 from rfl, iz_eq (by omega)]
  by_cases c0 : q = 0
  · exact ⟨iz L, T, S, bindE (shelfT c) (iteFE b2iT (bindE w1 (iteFE b2iT (b2E l1 (iteTE (by decide) (iteTE (q0.mpr c0) (by rw [l4.2.2.2.1]))))))), bindE (shelfT c) (iteFE b2iT (bindE w2 (iteFE b2iT (bindE l2 (iteTE (by decide) (bindE l3 (iteTE (q0.mpr c0) (by rw [l4.2.2.2.2.1])))))))), fin⟩
  have c0x : ¬ iz q = 0 := fun y => c0 (q0.mp y)
  have key : ∃ v, x_roundLong N T = some v ∧ m_oneRound N S = some v := by
    unfold x_roundLong m_oneRound
    by_cases cL : L = 0
    · subst cL
      obtain ⟨N, rfl⟩ : ∃ n, N = n + 1 := ⟨N - 1, by omega⟩
      rw [x_roundLong_b4, m_oneRound_b4, l4.2.2.2.1, l4.2.2.2.2.1]
      exact ⟨0, iteTE (by decide) rfl, iteTE (by decide) rfl⟩
    · have L20 := l4.2.2.1
      exact long_l (T' := T) (S' := S) h l4 (by omega) N N 0 0 (by omega) (by omega)
  obtain ⟨v, v1, v2⟩ := key
  exact ⟨v, T, S, bindE (shelfT c) (iteFE b2iT (bindE w1 (iteFE b2iT (b2E l1 (iteTE (by decide) (iteFE c0x (bindE v1 rfl))))))), bindE (shelfT c) (iteFE b2iT (bindE w2 (iteFE b2iT (bindE l2 (iteTE (by decide) (bindE l3 (iteFE c0x (bindE v2 rfl)))))))), fin⟩
