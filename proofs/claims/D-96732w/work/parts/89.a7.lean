/-! PLAIN LAW: a body made. Own text, printed by mk89.py. -/
set_option maxRecDepth 100000
theorem iteT {c : Prop} [Decidable c] {a b : Prop} (h : c) (k : a) : (if c then a else b) := by rw [if_pos h]; exact k
theorem iteF {c : Prop} [Decidable c] {a b : Prop} (h : ¬ c) (k : b) : (if c then a else b) := by rw [if_neg h]; exact k
theorem chkP_ok {n : Nat} {i : Int} {p : Prop} (h : 0 ≤ i ∧ i < n) (hn : n ≤ 1000) (k : p) : chkP n (iz i) p := by
  exact (chkP_iz (by omega)).mpr k
theorem law_body {X : XS} {M : MS} (h : R X M) (p : Int32) : sameP (fun Q => x_body Q 1000 X p) (m_body M p) := by
  obtain ⟨z, hz, rfl⟩ := izE p
  have hR := h
  have b0 := h.2.2.2.2.2.2.2.1.1
  by_cases c : ¬ (0 ≤ z ∧ z ≤ 7)
  · refine ⟨iz (-1), M, by unfold m_body; simp (disch := omega) only [iz_lit, iz_neg, iz_add, iz_sub, iz_mul, iz_lt, iz_le, iz_eq, iz_clamp, jmax_iz, jmin_iz, jabs_iz, iz_div, jrem_iz, nz_iz, chk_iz, nm_eq, b2_some, Option.bind_some, b2i_iz, decide_eq_false_iff_not, x_in_iz, m_within_iz, x_isShelf_iz, m_isShelf_iz, x_isCell_iz, x_isMinute_iz, m_isMinute_iz, Decidable.not_not, not_true, not_false_eq_true, if_true, if_false, c], ?_⟩
    show x_body _ 1000 X (iz z)
    unfold x_body
    refine bindP_eq (v := false) (by rw [show (0 : Int32) = iz 0 from rfl, show (7 : Int32) = iz 7 from rfl, x_in_iz (by omega), decide_eq_false c]) ?_
    exact iteT rfl ⟨rfl, hR⟩
  replace c := Decidable.not_not.mp c
  have hin : x_in (iz z) 0 7 = some true := by rw [show (0 : Int32) = iz 0 from rfl, show (7 : Int32) = iz 7 from rfl, x_in_iz (by omega), decide_eq_true c]
  by_cases c3 : mi M 37 = 50
  · refine ⟨iz (-3), M, by unfold m_body; simp (disch := omega) only [iz_lit, iz_neg, iz_add, iz_sub, iz_mul, iz_lt, iz_le, iz_eq, iz_clamp, jmax_iz, jmin_iz, jabs_iz, iz_div, jrem_iz, nz_iz, chk_iz, nm_eq, b2_some, Option.bind_some, b2i_iz, decide_eq_false_iff_not, x_in_iz, m_within_iz, x_isShelf_iz, m_isShelf_iz, x_isCell_iz, x_isMinute_iz, m_isMinute_iz, Decidable.not_not, not_true, not_false_eq_true, if_true, if_false, mi_eq M 37, c, and_self, c3], ?_⟩
    show x_body _ 1000 X (iz z)
    unfold x_body
    refine bindP_eq hin (iteF (by decide) (iteT (by rw [b0.1, c3]; rfl) ⟨rfl, hR⟩))
  obtain ⟨n, hn⟩ : ∃ n : Nat, mi M 37 = n := ⟨(mi M 37).toNat, by omega⟩
  have b1 : X.1 47 = iz n := by rw [b0.1, hn]
  have b2 : M.1 37 = iz n := by rw [mi_eq, hn]
  rw [hn] at c3
  refine ⟨iz n, sI (sA M 38 n (iz z)) 37 (iz ((n : Int) + 1)), ?_, ?_⟩
  · unfold m_body
    simp (disch := omega) only [iz_lit, iz_neg, iz_add, iz_sub, iz_mul, iz_lt, iz_le, iz_eq, iz_clamp, jmax_iz, jmin_iz, jabs_iz, iz_div, jrem_iz, nz_iz, chk_iz, nm_eq, b2_some, Option.bind_some, b2i_iz, decide_eq_false_iff_not, x_in_iz, m_within_iz, x_isShelf_iz, m_isShelf_iz, x_isCell_iz, x_isMinute_iz, m_isMinute_iz, Decidable.not_not, not_true, not_false_eq_true, if_true, if_false, b2, c, and_self, c3, sA1, Int.toNat_natCast]
  show x_body _ 1000 X (iz z)
  have fin : ∀ (k : Nat) (q : Nat), k ≤ 7 → z = k → X.2.2.2 q = none → (xI (xR (xO X q (mkO (14 + k) [X.1 47] [])) 46 (X.1 47).toNatClampNeg (some q)) 47 ((xR (xO X q (mkO (14 + k) [X.1 47] [])) 46 (X.1 47).toNatClampNeg (some q)).1 47 + 1)).1 47 - 1 = iz n ∧ R (xI (xR (xO X q (mkO (14 + k) [X.1 47] [])) 46 (X.1 47).toNatClampNeg (some q)) 47 ((xR (xO X q (mkO (14 + k) [X.1 47] [])) 46 (X.1 47).toNatClampNeg (some q)).1 47 + 1)) (sI (sA M 38 n (iz z)) 37 (iz ((n : Int) + 1))) := by
    intro k q hk e hq
    subst e
    have e1 : (xR (xO X q (mkO (14 + k) [X.1 47] [])) 46 (X.1 47).toNatClampNeg (some q)).1 47 + 1 = iz ((n : Int) + 1) := by
      show X.1 47 + 1 = _
      rw [b1, show (1 : Int32) = iz 1 from rfl, iz_add]
    rw [e1, b1, iz_clampN (by omega)]
    refine ⟨?_, R_newBody h hn (by omega) hq hk⟩
    show iz ((n : Int) + 1) - 1 = _
    rw [show (1 : Int32) = iz 1 from rfl, iz_sub, show (n : Int) + 1 - 1 = n by omega]
  unfold x_body
  refine bindP_eq hin (iteF (by decide) (iteF (by rw [b1]; simp (disch := omega) only [iz_lit, iz_neg, iz_add, iz_sub, iz_mul, iz_lt, iz_le, iz_eq, iz_clamp, jmax_iz, jmin_iz, jabs_iz, iz_div, jrem_iz, nz_iz, chk_iz, nm_eq, b2_some, Option.bind_some, b2i_iz, decide_eq_false_iff_not, x_in_iz, m_within_iz, x_isShelf_iz, m_isShelf_iz, x_isCell_iz, x_isMinute_iz, m_isMinute_iz, Decidable.not_not, not_true, not_false_eq_true, if_true, if_false, c3]) ⟨1, 999, rfl, ?_⟩))
  unfold x_made
  by_cases z1 : z = 1
  · subst z1
    refine iteT rfl ⟨0, rfl, fun q hq => ?_⟩
    refine bindP_eq rfl (bindP_eq (xO_at _ _ _) (iteF (show ¬ (15 : Nat) = 14 by decide) (iteT rfl ?_)))
    refine (show ∀ P : Prop, P → chkP 50 (X.1 47) P from fun P hP => by rw [b1]; exact chkP_ok (by omega) (by decide) hP) _ (bindP_eq (getO_eq (xO_at _ _ _) rfl) ?_)
    exact fin 1 q (by omega) rfl hq
  by_cases z2 : z = 2
  · subst z2
    refine iteF (by decide) (iteT rfl ⟨0, rfl, fun q hq => ?_⟩)
    refine bindP_eq rfl (bindP_eq (xO_at _ _ _) (iteF (show ¬ (16 : Nat) = 14 by decide) (iteF (show ¬ (16 : Nat) = 15 by decide) (iteT rfl ?_))))
    refine (show ∀ P : Prop, P → chkP 50 (X.1 47) P from fun P hP => by rw [b1]; exact chkP_ok (by omega) (by decide) hP) _ (bindP_eq (getO_eq (xO_at _ _ _) rfl) ?_)
    exact fin 2 q (by omega) rfl hq
  by_cases z3 : z = 3
  · subst z3
    refine iteF (by decide) (iteF (by decide) (iteT rfl ⟨0, rfl, fun q hq => ?_⟩))
    refine bindP_eq rfl (bindP_eq (xO_at _ _ _) (iteF (show ¬ (17 : Nat) = 14 by decide) (iteF (show ¬ (17 : Nat) = 15 by decide) (iteF (show ¬ (17 : Nat) = 16 by decide) (iteT rfl ?_)))))
    refine (show ∀ P : Prop, P → chkP 50 (X.1 47) P from fun P hP => by rw [b1]; exact chkP_ok (by omega) (by decide) hP) _ (bindP_eq (getO_eq (xO_at _ _ _) rfl) ?_)
    exact fin 3 q (by omega) rfl hq
  by_cases z4 : z = 4
  · subst z4
    refine iteF (by decide) (iteF (by decide) (iteF (by decide) (iteT rfl ⟨0, rfl, fun q hq => ?_⟩)))
    refine bindP_eq rfl (bindP_eq (xO_at _ _ _) (iteF (show ¬ (18 : Nat) = 14 by decide) (iteF (show ¬ (18 : Nat) = 15 by decide) (iteF (show ¬ (18 : Nat) = 16 by decide) (iteF (show ¬ (18 : Nat) = 17 by decide) (iteT rfl ?_))))))
    refine (show ∀ P : Prop, P → chkP 50 (X.1 47) P from fun P hP => by rw [b1]; exact chkP_ok (by omega) (by decide) hP) _ (bindP_eq (getO_eq (xO_at _ _ _) rfl) ?_)
    exact fin 4 q (by omega) rfl hq
  by_cases z5 : z = 5
  · subst z5
    refine iteF (by decide) (iteF (by decide) (iteF (by decide) (iteF (by decide) (iteT rfl ⟨0, rfl, fun q hq => ?_⟩))))
    refine bindP_eq rfl (bindP_eq (xO_at _ _ _) (iteF (show ¬ (19 : Nat) = 14 by decide) (iteF (show ¬ (19 : Nat) = 15 by decide) (iteF (show ¬ (19 : Nat) = 16 by decide) (iteF (show ¬ (19 : Nat) = 17 by decide) (iteF (show ¬ (19 : Nat) = 18 by decide) (iteT rfl ?_)))))))
    refine (show ∀ P : Prop, P → chkP 50 (X.1 47) P from fun P hP => by rw [b1]; exact chkP_ok (by omega) (by decide) hP) _ (bindP_eq (getO_eq (xO_at _ _ _) rfl) ?_)
    exact fin 5 q (by omega) rfl hq
  by_cases z6 : z = 6
  · subst z6
    refine iteF (by decide) (iteF (by decide) (iteF (by decide) (iteF (by decide) (iteF (by decide) (iteT rfl ⟨0, rfl, fun q hq => ?_⟩)))))
    refine bindP_eq rfl (bindP_eq (xO_at _ _ _) (iteF (show ¬ (20 : Nat) = 14 by decide) (iteF (show ¬ (20 : Nat) = 15 by decide) (iteF (show ¬ (20 : Nat) = 16 by decide) (iteF (show ¬ (20 : Nat) = 17 by decide) (iteF (show ¬ (20 : Nat) = 18 by decide) (iteF (show ¬ (20 : Nat) = 19 by decide) (iteT rfl ?_))))))))
    refine (show ∀ P : Prop, P → chkP 50 (X.1 47) P from fun P hP => by rw [b1]; exact chkP_ok (by omega) (by decide) hP) _ (bindP_eq (getO_eq (xO_at _ _ _) rfl) ?_)
    exact fin 6 q (by omega) rfl hq
  by_cases z7 : z = 7
  · subst z7
    refine iteF (by decide) (iteF (by decide) (iteF (by decide) (iteF (by decide) (iteF (by decide) (iteF (by decide) (iteT rfl ⟨0, rfl, fun q hq => ?_⟩))))))
    refine bindP_eq rfl (bindP_eq (xO_at _ _ _) (iteF (show ¬ (21 : Nat) = 14 by decide) (iteF (show ¬ (21 : Nat) = 15 by decide) (iteF (show ¬ (21 : Nat) = 16 by decide) (iteF (show ¬ (21 : Nat) = 17 by decide) (iteF (show ¬ (21 : Nat) = 18 by decide) (iteF (show ¬ (21 : Nat) = 19 by decide) (iteF (show ¬ (21 : Nat) = 20 by decide) (iteT rfl ?_)))))))))
    refine (show ∀ P : Prop, P → chkP 50 (X.1 47) P from fun P hP => by rw [b1]; exact chkP_ok (by omega) (by decide) hP) _ (bindP_eq (getO_eq (xO_at _ _ _) rfl) ?_)
    exact fin 7 q (by omega) rfl hq
  have z0 : z = 0 := by omega
  subst z0
  refine iteF (by decide) (iteF (by decide) (iteF (by decide) (iteF (by decide) (iteF (by decide) (iteF (by decide) (iteF (by decide) (⟨0, rfl, fun q hq => ?_⟩)))))))
  refine bindP_eq rfl (bindP_eq (xO_at _ _ _) (iteT rfl ?_))
  refine (show ∀ P : Prop, P → chkP 50 (X.1 47) P from fun P hP => by rw [b1]; exact chkP_ok (by omega) (by decide) hP) _ (bindP_eq (getO_eq (xO_at _ _ _) rfl) ?_)
  exact fin 0 q (by omega) rfl hq
