/-! PLAIN LAW: bestMinute. Own text. -/
set_option maxRecDepth 100000
theorem law_bestMinute {X : XS} {M : MS} (h : R X M) {N : Nat} (hN : 20000 ≤ N) (p w v u : Int32) : same (x_bestMinute N X p w v u) (m_bestMinute N M p w v u) := by
  obtain ⟨z, hz, rfl⟩ := izE p
  obtain ⟨r, hr, rfl⟩ := izE w
  obtain ⟨m, hm, rfl⟩ := izE v
  obtain ⟨f, hf, rfl⟩ := izE u
  have n9 := h.1.1.2
  unfold x_bestMinute m_bestMinute
  by_cases c : ¬ (0 ≤ z ∧ z ≤ 5)
  · exact ⟨_, _, _, bindE (shelfF hz c) (iteTE rfl rfl), bindE (shelfF hz c) (iteTE rfl rfl), h⟩
  replace c := Decidable.not_not.mp c
  have w1 := x_isPost_iz h.1.1.1 h.1.1.2 hr
  have w2 := m_isPost_iz (M := M) h.1.1.2 hr
  by_cases cp : ¬ (0 ≤ r ∧ r < mi M 0)
  · rw [decide_eq_false cp] at w1 w2
    exact ⟨_, _, _, bindE (shelfT c) (iteFE b2iT (bindE w1 (iteTE rfl rfl))), bindE (shelfT c) (iteFE b2iT (bindE w2 (iteTE rfl rfl))), h⟩
  replace cp := Decidable.not_not.mp cp
  rw [decide_eq_true cp] at w1 w2
  rcases mix_iz hm with ⟨f1, f2⟩ | ⟨f1, f2, q, k, q1, q2, q3, q4, q5⟩
  · exact ⟨_, _, _, bindE (shelfT c) (iteFE b2iT (bindE w1 (iteFE b2iT (bindE f1 (iteTE rfl rfl))))), bindE (shelfT c) (iteFE b2iT (bindE w2 (iteFE b2iT (bindE f2 (iteTE rfl rfl))))), h⟩
  have k1 : x_in (iz f) 0 1 = some (decide (0 ≤ f ∧ f ≤ 1)) := by rw [show (0 : Int32) = iz 0 from rfl, show (1 : Int32) = iz 1 from rfl, x_in_iz (by omega)]
  have k2 : m_within (iz f) 0 1 = some (decide (0 ≤ f ∧ f ≤ 1)) := k1
  by_cases cf : ¬ (0 ≤ f ∧ f ≤ 1)
  · rw [decide_eq_false cf] at k1 k2
    exact ⟨_, _, _, bindE (shelfT c) (iteFE b2iT (bindE w1 (iteFE b2iT (bindE f1 (iteFE b2iT (bindE k1 (iteTE rfl rfl))))))), bindE (shelfT c) (iteFE b2iT (bindE w2 (iteFE b2iT (bindE f2 (iteFE b2iT (bindE k2 (iteTE rfl rfl))))))), h⟩
  replace cf := Decidable.not_not.mp cf
  rw [decide_eq_true cf] at k1 k2
  obtain ⟨s, rfl⟩ : ∃ s : Nat, z = s := ⟨z.toNat, by omega⟩
  rcases lay_both h hN (s := s) (by omega) (p := r) (by omega) with ⟨e, he, l1, l2⟩ | ⟨U, S, V, g0, g1, l1, l2, l3, l4, l5, l6, l7⟩
  · have ne : ¬ (0 : Int32) ≤ iz e := by rw [show (0 : Int32) = iz 0 from rfl, iz_le (by omega)]; omega
    exact ⟨_, _, _, bindE (shelfT c) (iteFE b2iT (bindE w1 (iteFE b2iT (bindE f1 (iteFE b2iT (bindE k1 (iteFE b2iT (b2E l1 (iteFE ne rfl))))))))), bindE (shelfT c) (iteFE b2iT (bindE w2 (iteFE b2iT (bindE f2 (iteFE b2iT (bindE k2 (iteFE b2iT (bindE l2 (iteFE ne rfl))))))))), h.scr ((xs.rf X).setI rfl _) (sm.rf M)⟩
  obtain ⟨t, t1, t2, t3⟩ := best_iz l7 (N := N) (by omega) q2 q5
  have fin := h.scr l5 l6
  have z0 : (iz f = 0) ↔ f = 0 := by rw [show (0 : Int32) = iz 0 from rfl, iz_eq (by omega)]
  rw [q1, q3]
  by_cases d : f = 0
  · exact ⟨iz t, U, V, bindE (shelfT c) (iteFE b2iT (bindE w1 (iteFE b2iT (bindE f1 (iteFE b2iT (bindE k1 (iteFE b2iT (b2E l1 (iteTE (by decide) (bindE t2 (iteTE (z0.mpr d) rfl))))))))))), bindE (shelfT c) (iteFE b2iT (bindE w2 (iteFE b2iT (bindE f2 (iteFE b2iT (bindE k2 (iteFE b2iT (bindE l2 (iteTE (by decide) (bindE l3 (bindE l4 (bindE t3 (iteTE (z0.mpr d) rfl))))))))))))), fin⟩
  · obtain ⟨y, y1, y2, -⟩ := succ_iz l7 (N := N) (by omega) (a := t) (k := k) (by omega) (iz q)
    have dx : ¬ iz f = 0 := fun o => d (z0.mp o)
    exact ⟨y, U, V, bindE (shelfT c) (iteFE b2iT (bindE w1 (iteFE b2iT (bindE f1 (iteFE b2iT (bindE k1 (iteFE b2iT (b2E l1 (iteTE (by decide) (bindE t2 (iteFE dx (bindE y1 rfl)))))))))))), bindE (shelfT c) (iteFE b2iT (bindE w2 (iteFE b2iT (bindE f2 (iteFE b2iT (bindE k2 (iteFE b2iT (bindE l2 (iteTE (by decide) (bindE l3 (bindE l4 (bindE t3 (iteFE dx (bindE y2 rfl)))))))))))))), fin⟩
