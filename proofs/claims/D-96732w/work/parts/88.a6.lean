/-! PLAIN LAW: bodies, keep, the image, back. Own text, printed by mk88.py. -/
set_option maxRecDepth 100000
theorem RS.cg2 {X X' : XS} {M M' : MS} (h : RS X M) (er : X'.2.2.1 48 = X.2.2.1 48) (er2 : ∀ b : Nat, (b : Int) < mi M 37 → X'.2.2.1 46 b = X.2.2.1 46 b) (eo : ∀ (a : Nat) (o : XO), X.2.2.2 a = some o → 23 ≤ o.1 → X'.2.2.2 a = some o) (m37 : mi M 37 ≤ mi M' 37) (m41 : M'.2.1 41 = M.2.1 41) (m42 : M'.2.1 42 = M.2.1 42) (ml : M'.2.2 = M.2.2) : RS X' M' := by
  obtain ⟨h1, h2⟩ := h
  constructor
  · intro s hs
    unfold shR
    simp only [er, ma_cg m41, ma_cg m42, ml]
    rcases h1 s hs with q | ⟨b, q1, q2, q3⟩ | ⟨k, a, b, z, q1, q2, q3, q4, q5⟩
    · exact Or.inl q
    · exact Or.inr (Or.inl ⟨b, q1, by omega, by rw [er2 b q2]; exact q3⟩)
    · exact Or.inr (Or.inr ⟨k, a, b, z, q1, q2, q3, rowZ.cg eo (by omega) q4, q5⟩)
  · intro s s' k k' a a' b b' z z' g1 g2 g3 g4 g5 g6 g7 g8 g9 g10 g11
    rw [ma_cg m41] at g4 g6
    rw [er] at g8 g9
    obtain ⟨a0, b0, z0, c1, c2, -⟩ := (h1 s g1).row g4 g5
    obtain ⟨a1, b1, z1, d1, d2, -⟩ := (h1 s' g2).row g6 g7
    rw [g8] at c1
    rw [g9] at d1
    cases c1
    cases d1
    have e1 := rowZ.cg eo (by omega) c2
    have e2 := rowZ.cg eo (by omega) d2
    rw [g10] at e1
    rw [g11] at e2
    cases e1
    cases e2
    exact h2 s s' k k' a a' b b' z z' g1 g2 g3 g4 g5 g6 g7 g8 g9 c2 d2
theorem R_newBody {X : XS} {M : MS} (h : R X M) {n : Nat} (hn : mi M 37 = n) (h9 : n < 50) {q : Nat} (hq : X.2.2.2 q = none) {k : Nat} (hk : k ≤ 7) : R (xI (xR (xO X q (mkO (14 + k) [iz n] [])) 46 n (some q)) 47 (iz ((n : Int) + 1))) (sI (sA M 38 n (iz k)) 37 (iz ((n : Int) + 1))) := by
  obtain ⟨h1, h2, h3, h4, h5, h6, h7, h8, h9'⟩ := h
  have ko : ∀ (a : Nat) (u : XO), X.2.2.2 a = some u → (xO X q (mkO (14 + k) [iz n] [])).2.2.2 a = some u := fun a u hu => xO_new hq _ hu
  have r46 : ∀ j, (xR (xO X q (mkO (14 + k) [iz n] [])) 46 n (some q)).2.2.1 46 j = if j = n then some q else X.2.2.1 46 j := fun j => by rw [xR22, if_pos rfl]; rfl
  refine ⟨h1.cg rfl rfl rfl rfl rfl rfl (fun a u g _ => ko a u g) rfl rfl rfl rfl rfl rfl rfl, h2.cg rfl rfl rfl (fun a u g _ => ko a u g) (Int.le_refl _) rfl rfl rfl, h3.cg rfl rfl rfl rfl, h4.cg rfl (fun a u g _ => ko a u g) rfl rfl rfl rfl rfl rfl, h5.cg rfl rfl rfl rfl rfl rfl (Int.le_refl _) rfl rfl rfl, h6.cg rfl rfl rfl rfl rfl rfl rfl rfl rfl (Int.le_refl _) rfl rfl rfl rfl rfl rfl, h7.cg rfl rfl rfl rfl, ?_, ?_⟩
  · obtain ⟨g1, g2⟩ := h8
    have e37 : mi (sI (sA M 38 n (iz k)) 37 (iz ((n : Int) + 1))) 37 = (n : Int) + 1 := by rw [mi_sI _ _ (by omega), if_pos rfl]
    have e38 : ∀ j, ma (sI (sA M 38 n (iz k)) 37 (iz ((n : Int) + 1))) 38 j = if j = n then (k : Int) else ma M 38 j := fun j => by
      rw [ma_sI, ma_sA _ _ _ (by omega), if_pos rfl]
    unfold RB
    rw [e37]
    refine ⟨⟨rfl, by omega⟩, fun b hb => ?_⟩
    rw [e38]
    by_cases c : b = n
    · subst c
      refine ⟨q, mkO (14 + k) [iz b] [], ?_, xO_at _ _ _, ?_, ?_, rfl⟩
      · show (xR (xO X q (mkO (14 + k) [iz b] [])) 46 b (some q)).2.2.1 46 b = _
        rw [r46, if_pos rfl]
      · rw [if_pos rfl]
        show ((14 + k : Nat) : Int) = 14 + (k : Int)
        omega
      · rw [if_pos rfl]; omega
    · rw [if_neg c]
      obtain ⟨a, u, q1, q2, q3⟩ := g2 b (by omega)
      refine ⟨a, u, ?_, ko a u q2, q3⟩
      show (xR (xO X q (mkO (14 + k) [iz n] [])) 46 n (some q)).2.2.1 46 b = _
      rw [r46, if_neg c, q1]
  · refine h9'.cg2 rfl (fun b hb => ?_) (fun a u g _ => ko a u g) ?_ rfl rfl rfl
    · show (xR (xO X q (mkO (14 + k) [iz n] [])) 46 n (some q)).2.2.1 46 b = _
      rw [r46, if_neg (by omega)]
    · rw [hn]
      show (n : Int) ≤ (iz ((n : Int) + 1)).toInt
      rw [iz_toInt (by omega)]; omega
theorem mkO1 (t : Nat) (is : List Int32) (rs : List (Option Nat)) : (mkO t is rs).1 = t := rfl

theorem law_keep {X : XS} {M : MS} (h : R X M) (p w : Int32) : same (x_keep X p w) (m_keep M p w) := by
  obtain ⟨z, hz, rfl⟩ := izE p
  obtain ⟨b, hb, rfl⟩ := izE w
  have hR := h
  obtain ⟨h1, h2, h3, h4, h5, h6, h7, h8, h9⟩ := h
  obtain ⟨⟨a1, a2, a3⟩, a4⟩ := h8
  obtain ⟨s1, s2⟩ := h9
  have goal : ∀ (e : Option Nat) (v : Int), (-1 ≤ v ∧ v ≤ 1000000) → 0 ≤ z → z ≤ 5 → ((v = -1 ∧ e = none) ∨ ∃ k : Nat, v = 10 + k ∧ (k : Int) < mi M 37 ∧ e = X.2.2.1 46 k) → R (xR X 48 z.toNat e) (sA (sA M 41 z.toNat (iz v)) 42 z.toNat (iz 0)) := by
    intro e v hv z1 z2 he
    have r48 : ∀ j, (xR X 48 z.toNat e).2.2.1 48 j = if j = z.toNat then e else X.2.2.1 48 j := fun j => by rw [xR22, if_pos rfl]
    have e41 : ∀ j, ma (sA (sA M 41 z.toNat (iz v)) 42 z.toNat (iz 0)) 41 j = if j = z.toNat then v else ma M 41 j := fun j => by
      rw [ma_sA _ _ _ (by omega), if_neg (by decide), ma_sA _ _ _ (by omega), if_pos rfl]
    have e42 : ∀ j, ma (sA (sA M 41 z.toNat (iz v)) 42 z.toNat (iz 0)) 42 j = if j = z.toNat then 0 else ma M 42 j := fun j => by
      rw [ma_sA _ _ _ (by omega), if_pos rfl]
      by_cases c : j = z.toNat
      · rw [if_pos c, if_pos c]
      · rw [if_neg c, if_neg c, ma_sA _ _ _ (by omega), if_neg (by decide)]
    have h8 : RB X M := ⟨⟨a1, a2, a3⟩, a4⟩
    refine ⟨h1.cg rfl rfl rfl rfl rfl rfl (fun _ _ q _ => q) rfl rfl rfl rfl rfl rfl rfl, h2.cg rfl rfl rfl (fun _ _ q _ => q) (Int.le_refl _) rfl rfl rfl, h3.cg rfl rfl rfl rfl, h4.cg rfl (fun _ _ q _ => q) rfl rfl rfl rfl rfl rfl, h5.cg rfl rfl rfl rfl rfl rfl (Int.le_refl _) rfl rfl rfl, h6.cg rfl rfl rfl rfl rfl rfl rfl rfl rfl (Int.le_refl _) rfl rfl rfl rfl rfl rfl, h7.cg rfl rfl rfl rfl, h8.cg rfl rfl (fun _ _ q _ => q) rfl rfl, fun s hs => ?_, ?_⟩
    · unfold shR
      rw [r48, e41, e42]
      by_cases c : s = z.toNat
      · rw [if_pos c, if_pos c, if_pos c]
        rcases he with ⟨g1, g2⟩ | ⟨k, g1, g2, g3⟩
        · exact Or.inl ⟨g1, g2⟩
        · exact Or.inr (Or.inl ⟨k, g1, g2, g3⟩)
      · rw [if_neg c, if_neg c, if_neg c]
        exact s1 s hs
    · intro s s' k k' a a' b b' y y' g1 g2 g3 g4 g5 g6 g7 g8 g9 g10 g11
      rw [e41] at g4 g6
      rw [r48] at g8 g9
      by_cases c : s = z.toNat
      · rw [if_pos c] at g4
        rcases he with ⟨u1, -⟩ | ⟨j, u1, -⟩ <;> omega
      · by_cases c' : s' = z.toNat
        · rw [if_pos c'] at g6
          rcases he with ⟨u1, -⟩ | ⟨j, u1, -⟩ <;> omega
        · rw [if_neg c] at g4 g8
          rw [if_neg c'] at g6 g9
          exact s2 s s' k k' a a' b b' y y' g1 g2 g3 g4 g5 g6 g7 g8 g9 g10 g11
  unfold x_keep m_keep x_isBody
  rw [a1]
  by_cases c : ¬ (0 ≤ z ∧ z ≤ 5)
  · simp (disch := omega) only [iz_lit, iz_neg, iz_add, iz_sub, iz_mul, iz_lt, iz_le, iz_eq, iz_clamp, jmax_iz, jmin_iz, jabs_iz, iz_div, jrem_iz, nz_iz, chk_iz, nm_eq, b2_some, Option.bind_some, b2i_iz, decide_eq_false_iff_not, x_in_iz, m_within_iz, x_isShelf_iz, m_isShelf_iz, x_isCell_iz, x_isMinute_iz, m_isMinute_iz, Decidable.not_not, not_true, not_false_eq_true, if_true, if_false, c]
    exact ⟨_, _, _, rfl, rfl, hR⟩
  replace c := Decidable.not_not.mp c
  by_cases c1 : b = -1
  · subst c1
    unfold x_keep_b22 m_keep_b40
    simp (maxSteps := 4000000) (disch := omega) only [iz_lit, iz_neg, iz_add, iz_sub, iz_mul, iz_lt, iz_le, iz_eq, iz_clamp, jmax_iz, jmin_iz, jabs_iz, iz_div, jrem_iz, nz_iz, chk_iz, nm_eq, b2_some, Option.bind_some, b2i_iz, decide_eq_false_iff_not, x_in_iz, m_within_iz, x_isShelf_iz, m_isShelf_iz, x_isCell_iz, x_isMinute_iz, m_isMinute_iz, Decidable.not_not, not_true, not_false_eq_true, if_true, if_false, mi_eq M 37, c, and_self, show -1 ≤ (-1 : Int) ∧ (-1 : Int) ≤ mi M 37 - 1 by omega, show ¬ (0 : Int) ≤ -1 by omega]
    exact ⟨_, _, _, rfl, rfl, goal none (-1) (by omega) c.1 c.2 (Or.inl ⟨rfl, rfl⟩)⟩
  by_cases c2 : ¬ (0 ≤ b ∧ b ≤ mi M 37 - 1)
  · simp (disch := omega) only [iz_lit, iz_neg, iz_add, iz_sub, iz_mul, iz_lt, iz_le, iz_eq, iz_clamp, jmax_iz, jmin_iz, jabs_iz, iz_div, jrem_iz, nz_iz, chk_iz, nm_eq, b2_some, Option.bind_some, b2i_iz, decide_eq_false_iff_not, x_in_iz, m_within_iz, x_isShelf_iz, m_isShelf_iz, x_isCell_iz, x_isMinute_iz, m_isMinute_iz, Decidable.not_not, not_true, not_false_eq_true, if_true, if_false, mi_eq M 37, c, and_self, c1, c2, show ¬ (-1 ≤ b ∧ b ≤ mi M 37 - 1) by omega]
    exact ⟨_, _, _, rfl, rfl, hR⟩
  replace c2 := Decidable.not_not.mp c2
  obtain ⟨a, o, q1, q2, q3, q4, q5⟩ := a4 b.toNat (by omega)
  have hgoal := goal (some a) (10 + b) (by omega) c.1 c.2 (Or.inr ⟨b.toNat, by omega, by omega, q1.symm⟩)
  unfold x_keep_b22 m_keep_b40
  simp (maxSteps := 4000000) (disch := omega) only [iz_lit, iz_neg, iz_add, iz_sub, iz_mul, iz_lt, iz_le, iz_eq, iz_clamp, jmax_iz, jmin_iz, jabs_iz, iz_div, jrem_iz, nz_iz, chk_iz, nm_eq, b2_some, Option.bind_some, b2i_iz, decide_eq_false_iff_not, x_in_iz, m_within_iz, x_isShelf_iz, m_isShelf_iz, x_isCell_iz, x_isMinute_iz, m_isMinute_iz, Decidable.not_not, not_true, not_false_eq_true, if_true, if_false, mi_eq M 37, c, and_self, c1, c2, show (-1 ≤ b ∧ b ≤ mi M 37 - 1) by omega, q1, q2]
  by_cases t0 : o.1 = 14
  · simp (disch := omega) only [iz_lit, iz_neg, iz_add, iz_sub, iz_mul, iz_lt, iz_le, iz_eq, iz_clamp, jmax_iz, jmin_iz, jabs_iz, iz_div, jrem_iz, nz_iz, chk_iz, nm_eq, b2_some, Option.bind_some, b2i_iz, decide_eq_false_iff_not, x_in_iz, m_within_iz, x_isShelf_iz, m_isShelf_iz, x_isCell_iz, x_isMinute_iz, m_isMinute_iz, Decidable.not_not, not_true, not_false_eq_true, if_true, if_false, t0, Nat.reduceEqDiff, getO_eq q2 t0]
    exact ⟨_, _, _, rfl, rfl, hgoal⟩
  by_cases t1 : o.1 = 15
  · simp (disch := omega) only [iz_lit, iz_neg, iz_add, iz_sub, iz_mul, iz_lt, iz_le, iz_eq, iz_clamp, jmax_iz, jmin_iz, jabs_iz, iz_div, jrem_iz, nz_iz, chk_iz, nm_eq, b2_some, Option.bind_some, b2i_iz, decide_eq_false_iff_not, x_in_iz, m_within_iz, x_isShelf_iz, m_isShelf_iz, x_isCell_iz, x_isMinute_iz, m_isMinute_iz, Decidable.not_not, not_true, not_false_eq_true, if_true, if_false, t1, Nat.reduceEqDiff, getO_eq q2 t1]
    exact ⟨_, _, _, rfl, rfl, hgoal⟩
  by_cases t2 : o.1 = 16
  · simp (disch := omega) only [iz_lit, iz_neg, iz_add, iz_sub, iz_mul, iz_lt, iz_le, iz_eq, iz_clamp, jmax_iz, jmin_iz, jabs_iz, iz_div, jrem_iz, nz_iz, chk_iz, nm_eq, b2_some, Option.bind_some, b2i_iz, decide_eq_false_iff_not, x_in_iz, m_within_iz, x_isShelf_iz, m_isShelf_iz, x_isCell_iz, x_isMinute_iz, m_isMinute_iz, Decidable.not_not, not_true, not_false_eq_true, if_true, if_false, t2, Nat.reduceEqDiff, getO_eq q2 t2]
    exact ⟨_, _, _, rfl, rfl, hgoal⟩
  by_cases t3 : o.1 = 17
  · simp (disch := omega) only [iz_lit, iz_neg, iz_add, iz_sub, iz_mul, iz_lt, iz_le, iz_eq, iz_clamp, jmax_iz, jmin_iz, jabs_iz, iz_div, jrem_iz, nz_iz, chk_iz, nm_eq, b2_some, Option.bind_some, b2i_iz, decide_eq_false_iff_not, x_in_iz, m_within_iz, x_isShelf_iz, m_isShelf_iz, x_isCell_iz, x_isMinute_iz, m_isMinute_iz, Decidable.not_not, not_true, not_false_eq_true, if_true, if_false, t3, Nat.reduceEqDiff, getO_eq q2 t3]
    exact ⟨_, _, _, rfl, rfl, hgoal⟩
  by_cases t4 : o.1 = 18
  · simp (disch := omega) only [iz_lit, iz_neg, iz_add, iz_sub, iz_mul, iz_lt, iz_le, iz_eq, iz_clamp, jmax_iz, jmin_iz, jabs_iz, iz_div, jrem_iz, nz_iz, chk_iz, nm_eq, b2_some, Option.bind_some, b2i_iz, decide_eq_false_iff_not, x_in_iz, m_within_iz, x_isShelf_iz, m_isShelf_iz, x_isCell_iz, x_isMinute_iz, m_isMinute_iz, Decidable.not_not, not_true, not_false_eq_true, if_true, if_false, t4, Nat.reduceEqDiff, getO_eq q2 t4]
    exact ⟨_, _, _, rfl, rfl, hgoal⟩
  by_cases t5 : o.1 = 19
  · simp (disch := omega) only [iz_lit, iz_neg, iz_add, iz_sub, iz_mul, iz_lt, iz_le, iz_eq, iz_clamp, jmax_iz, jmin_iz, jabs_iz, iz_div, jrem_iz, nz_iz, chk_iz, nm_eq, b2_some, Option.bind_some, b2i_iz, decide_eq_false_iff_not, x_in_iz, m_within_iz, x_isShelf_iz, m_isShelf_iz, x_isCell_iz, x_isMinute_iz, m_isMinute_iz, Decidable.not_not, not_true, not_false_eq_true, if_true, if_false, t5, Nat.reduceEqDiff, getO_eq q2 t5]
    exact ⟨_, _, _, rfl, rfl, hgoal⟩
  by_cases t6 : o.1 = 20
  · simp (disch := omega) only [iz_lit, iz_neg, iz_add, iz_sub, iz_mul, iz_lt, iz_le, iz_eq, iz_clamp, jmax_iz, jmin_iz, jabs_iz, iz_div, jrem_iz, nz_iz, chk_iz, nm_eq, b2_some, Option.bind_some, b2i_iz, decide_eq_false_iff_not, x_in_iz, m_within_iz, x_isShelf_iz, m_isShelf_iz, x_isCell_iz, x_isMinute_iz, m_isMinute_iz, Decidable.not_not, not_true, not_false_eq_true, if_true, if_false, t6, Nat.reduceEqDiff, getO_eq q2 t6]
    exact ⟨_, _, _, rfl, rfl, hgoal⟩
  by_cases t7 : o.1 = 21
  · simp (disch := omega) only [iz_lit, iz_neg, iz_add, iz_sub, iz_mul, iz_lt, iz_le, iz_eq, iz_clamp, jmax_iz, jmin_iz, jabs_iz, iz_div, jrem_iz, nz_iz, chk_iz, nm_eq, b2_some, Option.bind_some, b2i_iz, decide_eq_false_iff_not, x_in_iz, m_within_iz, x_isShelf_iz, m_isShelf_iz, x_isCell_iz, x_isMinute_iz, m_isMinute_iz, Decidable.not_not, not_true, not_false_eq_true, if_true, if_false, t7, Nat.reduceEqDiff, getO_eq q2 t7]
    exact ⟨_, _, _, rfl, rfl, hgoal⟩
  omega
/-! the image -/
theorem x_image_l {X : XS} {M : MS} (h : RP X M) (N : Nat) : ∀ (n i : Nat) (T : XS), (i : Int) ≤ mi M 0 → mi M 0 - i < n → (∀ k, k ≠ 35 → T.1 k = X.1 k) → T.2.2 = X.2.2 → (∀ p : Nat, p < i → T.2.1 36 p = iz (ma M 26 p)) → ∃ T' : XS, x_image_b7 N n T (iz i) = x_image_b7 N 1 T' (iz (mi M 0)) ∧ T'.1 = T.1 ∧ T'.2.2 = X.2.2 ∧ (∀ k, k ≠ 36 → T'.2.1 k = T.2.1 k) ∧ ∀ p : Nat, (p : Int) < mi M 0 → T'.2.1 36 p = iz (ma M 26 p) := by
  have n0 := h.1.2
  intro n
  induction n with
  | zero => intro i T h1 h2; omega
  | succ n ih =>
    intro i T h1 h2 h3 h4 h5
    by_cases c : mi M 0 = i
    · refine ⟨T, ?_, rfl, h4, fun _ _ => rfl, fun p hp => h5 p (by omega)⟩
      rw [x_image_b7, x_image_b7, c, h3 1 (by decide), h.1.1, c]
      simp (disch := omega) only [iz_lit, iz_neg, iz_add, iz_sub, iz_mul, iz_lt, iz_le, iz_eq, iz_clamp, jmax_iz, jmin_iz, jabs_iz, iz_div, jrem_iz, nz_iz, chk_iz, nm_eq, b2_some, Option.bind_some, b2i_iz, decide_eq_false_iff_not, x_in_iz, m_within_iz, x_isShelf_iz, m_isShelf_iz, x_isCell_iz, x_isMinute_iz, m_isMinute_iz, Decidable.not_not, not_true, not_false_eq_true, if_true, if_false, Int.le_refl]
    · obtain ⟨a, o, q1, q2, -, -, -, -, -, q3⟩ := getP h (p := i) (by omega)
      rw [Int.toNat_natCast] at q1 q3
      have q1' : T.2.2.1 0 i = some a := by rw [h4]; exact q1
      have q2' : getO T a 3 = some o := by unfold getO; rw [h4]; exact q2
      rw [x_image_b7, h3 1 (by decide), h.1.1]
      simp (disch := omega) only [iz_lit, iz_neg, iz_add, iz_sub, iz_mul, iz_lt, iz_le, iz_eq, iz_clamp, jmax_iz, jmin_iz, jabs_iz, iz_div, jrem_iz, nz_iz, chk_iz, nm_eq, b2_some, Option.bind_some, b2i_iz, decide_eq_false_iff_not, x_in_iz, m_within_iz, x_isShelf_iz, m_isShelf_iz, x_isCell_iz, x_isMinute_iz, m_isMinute_iz, Decidable.not_not, not_true, not_false_eq_true, if_true, if_false, show ¬ mi M 0 ≤ (i : Int) by omega, Int.toNat_natCast, q1', q2', q3]
      obtain ⟨T', g1, g2, g3, g4, g5⟩ := ih (i + 1) (xA T 36 i (iz (ma M 26 i))) (by omega) (by omega) (fun k hk => h3 k hk) h4 (fun p hp => by
        rw [xA21, if_pos rfl]
        by_cases cp : p = i
        · rw [if_pos cp, cp]
        · rw [if_neg cp]; exact h5 p (by omega))
      refine ⟨T', g1, g2, g3, fun k hk => ?_, g5⟩
      rw [g4 k hk]
      funext j
      rw [xA21, if_neg hk]
theorem m_copy_b31 (N : Nat) (M : MS) : ∀ (n i : Nat) (T : MS), i ≤ 9 → 9 - i < n → T.1 = M.1 → T.2.2 = M.2.2 → (∀ k, k ≠ 32 → T.2.1 k = M.2.1 k) → (∀ p, p < i → T.2.1 32 p = M.2.1 26 p) → ∃ T' : MS, m_image_b31 N n T (iz i) = m_image_b57 N N T' (iz ((0 : Nat) : Int)) ∧ T'.1 = M.1 ∧ T'.2.2 = M.2.2 ∧ (∀ k, k ≠ 32 → T'.2.1 k = M.2.1 k) ∧ ∀ p, p < 9 → T'.2.1 32 p = M.2.1 26 p := by
  intro n
  induction n with
  | zero => intro i T h1 h2; omega
  | succ n ih =>
    intro i T h1 h2 h3 h4 h5 h6
    rw [m_image_b31]
    by_cases c : 9 ≤ i
    · simp (disch := omega) only [iz_lit, iz_neg, iz_add, iz_sub, iz_mul, iz_lt, iz_le, iz_eq, iz_clamp, jmax_iz, jmin_iz, jabs_iz, iz_div, jrem_iz, nz_iz, chk_iz, nm_eq, b2_some, Option.bind_some, b2i_iz, decide_eq_false_iff_not, x_in_iz, m_within_iz, x_isShelf_iz, m_isShelf_iz, x_isCell_iz, x_isMinute_iz, m_isMinute_iz, Decidable.not_not, not_true, not_false_eq_true, if_true, if_false, show 9 ≤ (i : Int) by omega]
      exact ⟨T, rfl, h3, h4, h5, fun p hp => h6 p (by omega)⟩
    · simp (disch := omega) only [iz_lit, iz_neg, iz_add, iz_sub, iz_mul, iz_lt, iz_le, iz_eq, iz_clamp, jmax_iz, jmin_iz, jabs_iz, iz_div, jrem_iz, nz_iz, chk_iz, nm_eq, b2_some, Option.bind_some, b2i_iz, decide_eq_false_iff_not, x_in_iz, m_within_iz, x_isShelf_iz, m_isShelf_iz, x_isCell_iz, x_isMinute_iz, m_isMinute_iz, Decidable.not_not, not_true, not_false_eq_true, if_true, if_false, show ¬ 9 ≤ (i : Int) by omega, Int.toNat_natCast]
      refine ih (i + 1) (sA T 32 i (T.2.1 26 i)) (by omega) (by omega) h3 h4 (fun k hk => ?_) (fun p hp => ?_)
      · rw [← h5 k hk]
        funext j
        rw [sA21, if_neg hk]
      · rw [sA21, if_pos rfl]
        by_cases cp : p = i
        · rw [if_pos cp, cp, h5 26 (by decide)]
        · rw [if_neg cp]; exact h6 p (by omega)
theorem m_copy_b57 (N : Nat) (M : MS) : ∀ (n i : Nat) (T : MS), i ≤ 4 → 4 - i < n → T.1 = M.1 → T.2.2 = M.2.2 → (∀ k, k ≠ 33 → T.2.1 k = M.2.1 k) → (∀ p, p < i → T.2.1 33 p = M.2.1 27 p) → ∃ T' : MS, m_image_b57 N n T (iz i) = some (M.1 25, T') ∧ T'.1 = M.1 ∧ T'.2.2 = M.2.2 ∧ (∀ k, k ≠ 33 → T'.2.1 k = M.2.1 k) ∧ ∀ p, p < 4 → T'.2.1 33 p = M.2.1 27 p := by
  intro n
  induction n with
  | zero => intro i T h1 h2; omega
  | succ n ih =>
    intro i T h1 h2 h3 h4 h5 h6
    rw [m_image_b57]
    by_cases c : 4 ≤ i
    · simp (disch := omega) only [iz_lit, iz_neg, iz_add, iz_sub, iz_mul, iz_lt, iz_le, iz_eq, iz_clamp, jmax_iz, jmin_iz, jabs_iz, iz_div, jrem_iz, nz_iz, chk_iz, nm_eq, b2_some, Option.bind_some, b2i_iz, decide_eq_false_iff_not, x_in_iz, m_within_iz, x_isShelf_iz, m_isShelf_iz, x_isCell_iz, x_isMinute_iz, m_isMinute_iz, Decidable.not_not, not_true, not_false_eq_true, if_true, if_false, show 4 ≤ (i : Int) by omega]
      exact ⟨T, by rw [h3], h3, h4, h5, fun p hp => h6 p (by omega)⟩
    · simp (disch := omega) only [iz_lit, iz_neg, iz_add, iz_sub, iz_mul, iz_lt, iz_le, iz_eq, iz_clamp, jmax_iz, jmin_iz, jabs_iz, iz_div, jrem_iz, nz_iz, chk_iz, nm_eq, b2_some, Option.bind_some, b2i_iz, decide_eq_false_iff_not, x_in_iz, m_within_iz, x_isShelf_iz, m_isShelf_iz, x_isCell_iz, x_isMinute_iz, m_isMinute_iz, Decidable.not_not, not_true, not_false_eq_true, if_true, if_false, show ¬ 4 ≤ (i : Int) by omega, Int.toNat_natCast]
      refine ih (i + 1) (sA T 33 i (T.2.1 27 i)) (by omega) (by omega) h3 h4 (fun k hk => ?_) (fun p hp => ?_)
      · rw [← h5 k hk]
        funext j
        rw [sA21, if_neg hk]
      · rw [sA21, if_pos rfl]
        by_cases cp : p = i
        · rw [if_pos cp, cp, h5 27 (by decide)]
        · rw [if_neg cp]; exact h6 p (by omega)
theorem law_image {X : XS} {M : MS} (h : R X M) {N : Nat} (hN : 100 ≤ N) : same (x_image N X) (m_image N M) := by
  have hR := h
  obtain ⟨h1, h2, h3, h4, h5, h6, h7, h8, h9⟩ := h
  have n := h1.1.2
  obtain ⟨T', g1, g2, g3, g4, g5⟩ := x_image_l h1 N N 0 (xI X 35 1) (by omega) (by omega) (fun k hk => by rw [xI1, if_neg hk]) rfl (fun p hp => by omega)
  obtain ⟨Y, y1, y2, y3, y4, y5⟩ := m_copy_b31 N (sI (sI (sI (sI M 28 1) 29 (M.1 0)) 30 (M.1 24)) 31 (M.1 25)) N 0 _ (by omega) (by omega) rfl rfl (fun _ _ => rfl) (fun p hp => by omega)
  obtain ⟨Z, z1, z2, z3, z4, z5⟩ := m_copy_b57 N Y N 0 _ (by omega) (by omega) rfl rfl (fun _ _ => rfl) (fun p hp => by omega)
  have hx : x_image N X = some (X.1 30, (xI (xI (xI (xI (xI (xI (xI T' 37 (X.1 1)) 38 (X.1 29)) 39 (X.1 30)) 40 (X.1 31)) 41 (X.1 32)) 42 (X.1 33)) 43 (X.1 34))) := by
    unfold x_image
    simp only [nm_eq]
    rw [show (0 : Int32) = iz ((0 : Nat) : Int) from rfl, g1, x_image_b7, g2, show (xI X 35 1).1 1 = X.1 1 from rfl, h1.1.1]
    simp only [Int32.le_refl, if_true, nm_eq]
    simp only [xI1, g2, Nat.reduceEqDiff, if_false, h1.1.1]
  have hm : m_image N M = some (M.1 25, Z) := by
    unfold m_image
    simp only [nm_eq]
    refine (show _ = m_image_b31 N N (sI (sI (sI (sI M 28 1) 29 (M.1 0)) 30 (M.1 24)) 31 (M.1 25)) (iz ((0 : Nat) : Int)) from rfl).trans ((y1.trans z1).trans ?_)
    rw [y2]
    rfl
  obtain ⟨⟨a1, a2, a3⟩, ⟨b1, b2, b3⟩, c1, c2, c3, c4⟩ := h5
  have ez : ∀ k, k ≠ 28 → k ≠ 29 → k ≠ 30 → k ≠ 31 → Z.1 k = M.1 k := fun k k1 k2 k3 k4 => by
    rw [z2, y2]
    simp only [sI1, k1, k2, k3, k4, if_false]
  have za : ∀ k, k ≠ 32 → k ≠ 33 → Z.2.1 k = M.2.1 k := fun k k1 k2 => by rw [z4 k k2, y4 k k1]; rfl
  have zl : Z.2.2 = M.2.2 := by rw [z3, y3]; rfl
  have tx : ∀ k, k ≠ 35 → T'.1 k = X.1 k := fun k hk => by rw [g2, xI1, if_neg hk]
  have ta : ∀ k, k ≠ 36 → T'.2.1 k = X.2.1 k := fun k hk => by rw [g4 k hk]; rfl
  have to : ∀ (a : Nat) (o : XO), X.2.2.2 a = some o → T'.2.2.2 a = some o := fun a o q => by rw [g3]; exact q
  have tr : ∀ r, T'.2.2.1 r = X.2.2.1 r := fun r => by rw [g3]
  have h5 : RA X M := ⟨⟨a1, a2, a3⟩, ⟨b1, b2, b3⟩, c1, c2, c3, c4⟩
  have le0 : mi M 0 ≤ mi Z 0 := by rw [mi_cg (ez 0 (by decide) (by decide) (by decide) (by decide))]; omega
  have b1' : X.1 30 = M.1 25 := by rw [b1, ← mi_eq]
  rw [b1'] at hx
  generalize hW : (xI (xI (xI (xI (xI (xI (xI T' 37 (X.1 1)) 38 (X.1 29)) 39 (M.1 25)) 40 (X.1 31)) 41 (X.1 32)) 42 (X.1 33)) 43 (X.1 34)) = V at hx
  refine ⟨M.1 25, V, Z, hx, hm, ?_⟩
  have vx : ∀ k, k ≠ 35 → k ≠ 37 → k ≠ 38 → k ≠ 39 → k ≠ 40 → k ≠ 41 → k ≠ 42 → k ≠ 43 → V.1 k = X.1 k := fun k k1 k2 k3 k4 k5 k6 k7 k8 => by
    rw [← hW]
    simp only [xI1, k2, k3, k4, k5, k6, k7, k8, if_false]
    exact tx k k1
  have va : ∀ k, k ≠ 36 → V.2.1 k = X.2.1 k := fun k hk => by rw [← hW]; exact ta k hk
  have vo : ∀ (a : Nat) (o : XO), X.2.2.2 a = some o → V.2.2.2 a = some o := fun a o q => by rw [← hW]; exact to a o q
  have vr : ∀ r, V.2.2.1 r = X.2.2.1 r := fun r => by rw [← hW]; exact tr r
  have D : ∀ k : Nat, k < 35 → V.1 k = X.1 k := fun k hk => vx k (by omega) (by omega) (by omega) (by omega) (by omega) (by omega) (by omega) (by omega)
  have E : ∀ k : Nat, k < 28 ∨ 31 < k → Z.1 k = M.1 k := fun k hk => ez k (by omega) (by omega) (by omega) (by omega)
  have F : ∀ k : Nat, k < 32 ∨ 33 < k → Z.2.1 k = M.2.1 k := fun k hk => za k (by omega) (by omega)
  refine ⟨?_, ?_, ?_, ?_, ?_, ?_, ?_, ?_, ?_⟩
  · exact h1.cg (D 1 (by omega)) (D 2 (by omega)) (D 3 (by omega)) (D 4 (by omega)) (D 5 (by omega)) (vr 0) (fun a o q _ => vo a o q) (E 0 (by omega)) (F 1 (by omega)) (F 2 (by omega)) (F 3 (by omega)) (F 4 (by omega)) (F 5 (by omega)) (F 26 (by omega))
  · exact h2.cg (D 7 (by omega)) (D 8 (by omega)) (vr 6) (fun a o q _ => vo a o q) le0 (E 34 (by omega)) (E 35 (by omega)) (F 36 (by omega))
  · exact h3.cg (D 10 (by omega)) (va 9 (by decide)) (E 6 (by omega)) (F 7 (by omega))
  · exact h4.cg (vr 11) (fun a o q _ => vo a o q) (E 8 (by omega)) (E 9 (by omega)) (F 10 (by omega)) (F 11 (by omega)) (F 12 (by omega)) (F 13 (by omega))
  · exact h5.cg (D 29 (by omega)) (D 30 (by omega)) (D 31 (by omega)) (D 32 (by omega)) (D 33 (by omega)) (D 34 (by omega)) le0 (E 24 (by omega)) (E 25 (by omega)) (F 27 (by omega))
  · have z28 : Z.1 28 = 1 := by rw [z2, y2]; rfl
    have z29 : Z.1 29 = M.1 0 := by rw [z2, y2]; rfl
    have z30 : Z.1 30 = M.1 24 := by rw [z2, y2]; rfl
    have z31 : Z.1 31 = M.1 25 := by rw [z2, y2]; rfl
    have i29 : mi Z 29 = mi M 0 := by unfold mi; rw [z29]
    have i30 : mi Z 30 = mi M 24 := by unfold mi; rw [z30]
    have i31 : mi Z 31 = mi M 25 := by unfold mi; rw [z31]
    have i0 : mi Z 0 = mi M 0 := mi_cg (E 0 (by omega))
    have z27 : ∀ j, j < 4 → Z.2.1 33 j = M.2.1 27 j := fun j hj => by rw [z5 j hj, y4 27 (by decide)]; rfl
    unfold RI
    rw [i29, i30, i31, i0, z27 0 (by omega), z27 1 (by omega), z27 2 (by omega), z27 3 (by omega), z28]
    subst hW
    refine ⟨?_, fun _ => ⟨⟨?_, by omega⟩, ⟨?_, by omega⟩, ⟨?_, by omega⟩, ⟨c1, c2, c3, c4⟩, fun p hp => ?_⟩⟩
    · show T'.1 35 = 1
      rw [g2]; rfl
    · exact h1.1.1
    · exact a1
    · exact mi_eq M 25
    · show T'.2.1 36 p = Z.2.1 32 p
      rw [g5 p hp, z4 32 (by decide), y5 p (by omega), ← ma_eq]
      rfl
  · exact h7.cg (vx 44 (by decide) (by decide) (by decide) (by decide) (by decide) (by decide) (by decide) (by decide)) (va 45 (by decide)) (E 39 (by omega)) (F 40 (by omega))
  · exact h8.cg (vx 47 (by decide) (by decide) (by decide) (by decide) (by decide) (by decide) (by decide) (by decide)) (vr 46) (fun a o q _ => vo a o q) (E 37 (by omega)) (F 38 (by omega))
  · exact h9.cg (vr 48) (vr 46) (fun a o q _ => vo a o q) (E 37 (by omega)) (F 41 (by omega)) (F 42 (by omega)) zl
