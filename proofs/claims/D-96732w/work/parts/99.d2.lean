/-! PLAIN LAW: which. Own text. -/
set_option maxRecDepth 100000
theorem Dn.lim {M : MS} {q : Nat → Int} {D E : Nat} (h : Dn M q 4000 D) (g : Dn M q 30 E) : ∀ i, i < 30 → (i < D ↔ i < E) := by
  obtain ⟨a1, a2, a3⟩ := h
  obtain ⟨b1, b2, b3⟩ := g
  intro i hi
  constructor
  · intro k
    rcases b3 with b3 | b3
    · omega
    · by_cases c : i < E
      · exact c
      · have := a2 E (by omega)
        omega
  · intro k
    rcases a3 with a3 | a3
    · omega
    · by_cases c : i < D
      · exact c
      · have := b2 D (by omega)
        omega
theorem lay_paper {X : XS} {M : MS} (h : R X M) {N : Nat} (hN : 100 ≤ N) {s : Nat} (hs : s < 6) : (ma M 41 s = -1 ∧ x_layPaper N X (iz s) = some (iz (-11), xI X 26 0)) ∨ (ma M 41 s ≠ -1 ∧ ma M 41 s ≠ 1 ∧ x_layPaper N X (iz s) = some (iz (-12), xI X 26 0)) ∨ (ma M 41 s = 1 ∧ ∃ (T : XS) (n : Nat), x_layPaper N X (iz s) = some (0, T) ∧ xs X T ∧ T.1 26 = iz n ∧ n ≤ 60 ∧ ma M 42 s = n ∧ (∀ j, j < n → T.2.1 25 j = (M.2.2 (60 * s + j)).toInt32) ∧ (∀ r, r ≠ 25 → T.2.1 r = X.2.1 r) ∧ ∀ r, r ≠ 26 → T.1 r = X.1 r) := by
  have h9 := h.2.2.2.2.2.2.2.2
  have h8 := h.2.2.2.2.2.2.2.1
  have e1 := h9.1 s hs
  have ez : (iz s).toNatClampNeg = s := iz_clampN (by omega)
  unfold x_layPaper
  rw [nmE]
  by_cases d : ma M 41 s = -1
  · refine Or.inl ⟨d, chkE rfl (by omega) (onlN ?_ rfl)⟩
    rw [ez]
    rcases e1 with ⟨-, q⟩ | ⟨b, q, -⟩ | ⟨k, a, b, y, q1, q2, -⟩
    · exact q
    · omega
    · omega
  by_cases d1 : ma M 41 s = 1
  · obtain ⟨a, b, y, g1, g2, g3, g4, g5⟩ := e1.row (h := 1) d1 (by omega)
    obtain ⟨x, x1, x2, -⟩ := rowZ_ex g2
    obtain ⟨T, t1, t2, t3, t4, t5, t6⟩ := lay_l (X0 := xI X 26 0) N g2 g4 N 0 (xI X 26 0) (by omega) (by omega) (xs.rf _) rfl (fun j hj => absurd hj (by omega))
    exact Or.inr (Or.inr ⟨d1, T, y.2.2.2.1, chkE rfl (by omega) (onlS (by rw [ez]; exact g1) (bindE x1 (iteTE x2 t1))), ((xs.rf X).setI rfl _).tr t2, t3, g4, g3, fun j hj => by rw [t4 j hj, g5 j hj], t5, fun r hr => (t6 r hr).trans (by rw [xI1, if_neg hr])⟩)
  refine Or.inr (Or.inl ⟨d, d1, ?_⟩)
  by_cases d2 : 5 ≤ ma M 41 s
  · obtain ⟨b, k, a, o, q1, q2, q3, q4, q5, q6, q7, q8, q9⟩ := e1.body h8 d2
    refine chkE rfl (by omega) (onlS (by rw [ez]; exact q4) (bindE q5 (iteFE (by omega) (iteTE ?_ rfl))))
    simp only [List.mem_cons, List.not_mem_nil]; omega
  · obtain ⟨k', k4, hk'⟩ := e1.ge.2 (by omega) (by have := e1.ge.1; omega)
    obtain ⟨a, b, y, g1, g2, g3, g4, g5⟩ := e1.row hk' k4
    obtain ⟨x, x1, x2, -⟩ := rowZ_ex g2
    refine chkE rfl (by omega) (onlS (by rw [ez]; exact g1) (bindE x1 (iteFE (by omega) (iteTE ?_ rfl))))
    simp only [List.mem_cons, List.not_mem_nil]; omega
theorem noRow_is {M : MS} {s : Nat} (hs : s < 6) {c : Int} (hc : -20 ≤ c ∧ c ≤ 0) (h : m_noRow M (iz s) 0 = some (iz c)) : (c = -11 ∧ ma M 41 s = -1) ∨ (c = 0 ∧ ma M 41 s = 0) ∨ (c = -12 ∧ ma M 41 s ≠ -1 ∧ ma M 41 s ≠ 0) := by
  have ez : (iz s).toNatClampNeg = s := iz_clampN (by omega)
  have r41 := ma_R M 41 s
  have lit : ∀ k : Int, -100 ≤ k ∧ k ≤ 100 → ((M.2.1 41 (iz s).toNatClampNeg = iz k) ↔ ma M 41 s = k) := fun k hk => by rw [ez, ma_eq M 41, iz_eq (by omega)]
  have un : ∀ v : Int, -20 ≤ v ∧ v ≤ 0 → m_noRow M (iz s) 0 = some (iz v) → c = v := fun v hv g => by
    rw [h] at g
    exact (iz_eq (by omega)).mp (Option.some.inj g)
  by_cases d : ma M 41 s = -1
  · refine Or.inl ⟨un (-11) (by omega) ?_, d⟩
    unfold m_noRow
    exact chkE rfl (by omega) (iteTE ((lit (-1) (by omega)).mpr d) rfl)
  have nm1 : ¬ M.2.1 41 (iz s).toNatClampNeg = -1 := fun q => d ((lit (-1) (by omega)).mp q)
  by_cases d0 : ma M 41 s = 0
  · refine Or.inr (Or.inl ⟨un 0 (by omega) ?_, d0⟩)
    unfold m_noRow
    exact chkE rfl (by omega) (iteFE nm1 (chkE rfl (by omega) (iteTE ((lit 0 (by omega)).mpr d0) rfl)))
  · refine Or.inr (Or.inr ⟨un (-12) (by omega) ?_, d, d0⟩)
    unfold m_noRow
    exact chkE rfl (by omega) (iteFE nm1 (chkE rfl (by omega) (iteFE (fun q => d0 ((lit 0 (by omega)).mp q)) rfl)))
