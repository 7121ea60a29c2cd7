/-! PLAIN LAW: of, undo, redo, mend. Own text. -/
set_option maxRecDepth 100000
def okOf (n p w : Int) : Prop := (0 ≤ w ∧ w ≤ 7) ∧ (w ≤ 3 → 0 ≤ p ∧ p < n) ∧ (4 ≤ w → p = 0)
def okOfB (n p w : Int) : Bool := decide (0 ≤ w ∧ w ≤ 7) && (if w ≤ 3 then decide (0 ≤ p ∧ p < n) else decide (p = 0))
theorem okOfB_t {n p w : Int} (h : okOfB n p w = true) : okOf n p w := by
  unfold okOfB at h
  rw [Bool.and_eq_true, decide_eq_true_eq] at h
  obtain ⟨h1, h2⟩ := h
  by_cases c : w ≤ 3
  · rw [if_pos c, decide_eq_true_eq] at h2; exact ⟨h1, fun _ => h2, fun q => by omega⟩
  · rw [if_neg c, decide_eq_true_eq] at h2; exact ⟨h1, fun q => by omega, fun _ => h2⟩
theorem okOfB_lo {n p w : Int} (h : 0 ≤ w ∧ w ≤ 3) : okOfB n p w = decide (0 ≤ p ∧ p < n) := by
  unfold okOfB
  rw [decide_eq_true (show 0 ≤ w ∧ w ≤ 7 by omega), if_pos h.2]
  rfl
theorem okOfB_hi {n p w : Int} (h : 4 ≤ w ∧ w ≤ 7) : okOfB n p w = decide (p = 0) := by
  unfold okOfB
  rw [decide_eq_true (show 0 ≤ w ∧ w ≤ 7 by omega), if_neg (by omega)]
  rfl
theorem okOfB_no {n p w : Int} (h : ¬ (0 ≤ w ∧ w ≤ 7)) : okOfB n p w = false := by
  unfold okOfB
  rw [decide_eq_false h]
  rfl
theorem x_isOf_iz {X : XS} {M : MS} (h : RP X M) {p w : Int} (hp : -2147483648 ≤ p ∧ p ≤ 2147483647) (hw : -2147483648 ≤ w ∧ w ≤ 2147483647) : x_isOf X (iz p) (iz w) = some (okOfB (mi M 0) p w) := by
  have n := h.1.2
  unfold x_isOf
  rw [x_isPost_iz h.1.1 n hp]
  by_cases c1 : 0 ≤ w ∧ w ≤ 3
  · rw [okOfB_lo c1]
    simp (disch := omega) only [iz_lit, iz_neg, iz_add, iz_sub, iz_mul, iz_lt, iz_le, iz_eq, iz_clamp, jmax_iz, jmin_iz, jabs_iz, iz_div, jrem_iz, nz_iz, chk_iz, nm_eq, b2_some, Option.bind_some, b2i_iz, decide_eq_false_iff_not, x_in_iz, m_within_iz, x_isShelf_iz, m_isShelf_iz, x_isCell_iz, x_isMinute_iz, m_isMinute_iz, Decidable.not_not, not_true, not_false_eq_true, if_true, if_false, c1, and_self, decide_true, reduceCtorEq]
  · by_cases c2 : 4 ≤ w ∧ w ≤ 7
    · rw [okOfB_hi c2]
      simp (disch := omega) only [iz_lit, iz_neg, iz_add, iz_sub, iz_mul, iz_lt, iz_le, iz_eq, iz_clamp, jmax_iz, jmin_iz, jabs_iz, iz_div, jrem_iz, nz_iz, chk_iz, nm_eq, b2_some, Option.bind_some, b2i_iz, decide_eq_false_iff_not, x_in_iz, m_within_iz, x_isShelf_iz, m_isShelf_iz, x_isCell_iz, x_isMinute_iz, m_isMinute_iz, Decidable.not_not, not_true, not_false_eq_true, if_true, if_false, c1, c2, and_self, decide_true, reduceCtorEq]
      by_cases c3 : p = 0
      · rw [if_pos c3, decide_eq_true c3]
      · rw [if_neg c3, decide_eq_false c3]
    · rw [okOfB_no (by omega)]
      simp (disch := omega) only [iz_lit, iz_neg, iz_add, iz_sub, iz_mul, iz_lt, iz_le, iz_eq, iz_clamp, jmax_iz, jmin_iz, jabs_iz, iz_div, jrem_iz, nz_iz, chk_iz, nm_eq, b2_some, Option.bind_some, b2i_iz, decide_eq_false_iff_not, x_in_iz, m_within_iz, x_isShelf_iz, m_isShelf_iz, x_isCell_iz, x_isMinute_iz, m_isMinute_iz, Decidable.not_not, not_true, not_false_eq_true, if_true, if_false, c1, c2]
theorem m_isOf_iz {X : XS} {M : MS} (h : RP X M) {p w : Int} (hp : -2147483648 ≤ p ∧ p ≤ 2147483647) (hw : -2147483648 ≤ w ∧ w ≤ 2147483647) : m_isOf M (iz p) (iz w) = some (okOfB (mi M 0) p w) := by
  rw [← x_isOf_iz h hp hw]
  unfold x_isOf m_isOf
  rw [x_isPost_iz h.1.1 h.1.2 hp, m_isPost_iz h.1.2 hp]
  rfl
def valOf (M : MS) (p w : Int) : Int := if w = 0 then ma M 1 p.toNat else if w = 1 then ma M 2 p.toNat else if w = 2 then ma M 3 p.toNat else if w = 3 then ma M 4 p.toNat else ma M 5 (w - 4).toNat
theorem x_valueOf_iz {X : XS} {M : MS} (h : RP X M) {p w : Int} (hk : okOf (mi M 0) p w) : x_valueOf X (iz p) (iz w) = some (iz (valOf M p w)) := by
  have n := h.1.2
  obtain ⟨hw, hp, hp2⟩ := hk
  unfold x_valueOf valOf
  have obj : w ≤ 3 → ∃ a o, X.2.2.1 0 p.toNat = some a ∧ getO X a 3 = some o ∧ o.2.1 0 = iz (ma M 1 p.toNat) ∧ o.2.1 1 = iz (ma M 2 p.toNat) ∧ o.2.1 2 = iz (ma M 3 p.toNat) ∧ o.2.1 3 = iz (ma M 4 p.toNat) := by
    intro c
    obtain ⟨a, o, q1, q2, q3, q4, q5, q6, q7, -⟩ := h.2.2.2.1 p.toNat (by have := hp c; omega)
    exact ⟨a, o, q1, getO_eq q2 q3, q4, q5, q6, q7⟩
  by_cases w3 : w ≤ 3
  · obtain ⟨a, o, q1, q2, q3, q4, q5, q6⟩ := obj w3
    have hp' := hp w3
    by_cases w0 : w = 0
    · simp (disch := omega) only [iz_lit, iz_neg, iz_add, iz_sub, iz_mul, iz_lt, iz_le, iz_eq, iz_clamp, jmax_iz, jmin_iz, jabs_iz, iz_div, jrem_iz, nz_iz, chk_iz, nm_eq, b2_some, Option.bind_some, b2i_iz, decide_eq_false_iff_not, x_in_iz, m_within_iz, x_isShelf_iz, m_isShelf_iz, x_isCell_iz, x_isMinute_iz, m_isMinute_iz, Decidable.not_not, not_true, not_false_eq_true, if_true, if_false, w0, q1, q2, q3, Int.reduceEq]
    by_cases w1 : w = 1
    · simp (disch := omega) only [iz_lit, iz_neg, iz_add, iz_sub, iz_mul, iz_lt, iz_le, iz_eq, iz_clamp, jmax_iz, jmin_iz, jabs_iz, iz_div, jrem_iz, nz_iz, chk_iz, nm_eq, b2_some, Option.bind_some, b2i_iz, decide_eq_false_iff_not, x_in_iz, m_within_iz, x_isShelf_iz, m_isShelf_iz, x_isCell_iz, x_isMinute_iz, m_isMinute_iz, Decidable.not_not, not_true, not_false_eq_true, if_true, if_false, w1, q1, q2, q4, Int.reduceEq]
    by_cases w2 : w = 2
    · simp (disch := omega) only [iz_lit, iz_neg, iz_add, iz_sub, iz_mul, iz_lt, iz_le, iz_eq, iz_clamp, jmax_iz, jmin_iz, jabs_iz, iz_div, jrem_iz, nz_iz, chk_iz, nm_eq, b2_some, Option.bind_some, b2i_iz, decide_eq_false_iff_not, x_in_iz, m_within_iz, x_isShelf_iz, m_isShelf_iz, x_isCell_iz, x_isMinute_iz, m_isMinute_iz, Decidable.not_not, not_true, not_false_eq_true, if_true, if_false, w2, q1, q2, q5, Int.reduceEq]
    have w3' : w = 3 := by omega
    simp (disch := omega) only [iz_lit, iz_neg, iz_add, iz_sub, iz_mul, iz_lt, iz_le, iz_eq, iz_clamp, jmax_iz, jmin_iz, jabs_iz, iz_div, jrem_iz, nz_iz, chk_iz, nm_eq, b2_some, Option.bind_some, b2i_iz, decide_eq_false_iff_not, x_in_iz, m_within_iz, x_isShelf_iz, m_isShelf_iz, x_isCell_iz, x_isMinute_iz, m_isMinute_iz, Decidable.not_not, not_true, not_false_eq_true, if_true, if_false, w3', q1, q2, q6, Int.reduceEq]
  · by_cases w4 : w = 4
    · simp (disch := omega) only [iz_lit, iz_neg, iz_add, iz_sub, iz_mul, iz_lt, iz_le, iz_eq, iz_clamp, jmax_iz, jmin_iz, jabs_iz, iz_div, jrem_iz, nz_iz, chk_iz, nm_eq, b2_some, Option.bind_some, b2i_iz, decide_eq_false_iff_not, x_in_iz, m_within_iz, x_isShelf_iz, m_isShelf_iz, x_isCell_iz, x_isMinute_iz, m_isMinute_iz, Decidable.not_not, not_true, not_false_eq_true, if_true, if_false, w4, Int.reduceEq]; rw [h.2.1.1]; rfl
    by_cases w5 : w = 5
    · simp (disch := omega) only [iz_lit, iz_neg, iz_add, iz_sub, iz_mul, iz_lt, iz_le, iz_eq, iz_clamp, jmax_iz, jmin_iz, jabs_iz, iz_div, jrem_iz, nz_iz, chk_iz, nm_eq, b2_some, Option.bind_some, b2i_iz, decide_eq_false_iff_not, x_in_iz, m_within_iz, x_isShelf_iz, m_isShelf_iz, x_isCell_iz, x_isMinute_iz, m_isMinute_iz, Decidable.not_not, not_true, not_false_eq_true, if_true, if_false, w5, Int.reduceEq]; rw [h.2.1.2.1]; rfl
    by_cases w6 : w = 6
    · simp (disch := omega) only [iz_lit, iz_neg, iz_add, iz_sub, iz_mul, iz_lt, iz_le, iz_eq, iz_clamp, jmax_iz, jmin_iz, jabs_iz, iz_div, jrem_iz, nz_iz, chk_iz, nm_eq, b2_some, Option.bind_some, b2i_iz, decide_eq_false_iff_not, x_in_iz, m_within_iz, x_isShelf_iz, m_isShelf_iz, x_isCell_iz, x_isMinute_iz, m_isMinute_iz, Decidable.not_not, not_true, not_false_eq_true, if_true, if_false, w6, Int.reduceEq]; rw [h.2.1.2.2.1]; rfl
    have w7 : w = 7 := by omega
    simp (disch := omega) only [iz_lit, iz_neg, iz_add, iz_sub, iz_mul, iz_lt, iz_le, iz_eq, iz_clamp, jmax_iz, jmin_iz, jabs_iz, iz_div, jrem_iz, nz_iz, chk_iz, nm_eq, b2_some, Option.bind_some, b2i_iz, decide_eq_false_iff_not, x_in_iz, m_within_iz, x_isShelf_iz, m_isShelf_iz, x_isCell_iz, x_isMinute_iz, m_isMinute_iz, Decidable.not_not, not_true, not_false_eq_true, if_true, if_false, w7, Int.reduceEq]
    rw [h.2.1.2.2.2]; rfl
theorem m_get_iz {X : XS} {M : MS} (h : RP X M) {p w : Int} (hk : okOf (mi M 0) p w) : m_get M (iz p) (iz w) = some (iz (valOf M p w)) := by
  have n := h.1.2
  obtain ⟨hw, hp, hp2⟩ := hk
  unfold m_get valOf
  by_cases w3 : w ≤ 3
  · have hp' := hp w3
    by_cases w0 : w = 0
    · simp (disch := omega) only [iz_lit, iz_neg, iz_add, iz_sub, iz_mul, iz_lt, iz_le, iz_eq, iz_clamp, jmax_iz, jmin_iz, jabs_iz, iz_div, jrem_iz, nz_iz, chk_iz, nm_eq, b2_some, Option.bind_some, b2i_iz, decide_eq_false_iff_not, x_in_iz, m_within_iz, x_isShelf_iz, m_isShelf_iz, x_isCell_iz, x_isMinute_iz, m_isMinute_iz, Decidable.not_not, not_true, not_false_eq_true, if_true, if_false, w0, ma_eq M, Int.reduceEq]
    by_cases w1 : w = 1
    · simp (disch := omega) only [iz_lit, iz_neg, iz_add, iz_sub, iz_mul, iz_lt, iz_le, iz_eq, iz_clamp, jmax_iz, jmin_iz, jabs_iz, iz_div, jrem_iz, nz_iz, chk_iz, nm_eq, b2_some, Option.bind_some, b2i_iz, decide_eq_false_iff_not, x_in_iz, m_within_iz, x_isShelf_iz, m_isShelf_iz, x_isCell_iz, x_isMinute_iz, m_isMinute_iz, Decidable.not_not, not_true, not_false_eq_true, if_true, if_false, w1, ma_eq M, Int.reduceEq]
    by_cases w2 : w = 2
    · simp (disch := omega) only [iz_lit, iz_neg, iz_add, iz_sub, iz_mul, iz_lt, iz_le, iz_eq, iz_clamp, jmax_iz, jmin_iz, jabs_iz, iz_div, jrem_iz, nz_iz, chk_iz, nm_eq, b2_some, Option.bind_some, b2i_iz, decide_eq_false_iff_not, x_in_iz, m_within_iz, x_isShelf_iz, m_isShelf_iz, x_isCell_iz, x_isMinute_iz, m_isMinute_iz, Decidable.not_not, not_true, not_false_eq_true, if_true, if_false, w2, ma_eq M, Int.reduceEq]
    have w3' : w = 3 := by omega
    simp (disch := omega) only [iz_lit, iz_neg, iz_add, iz_sub, iz_mul, iz_lt, iz_le, iz_eq, iz_clamp, jmax_iz, jmin_iz, jabs_iz, iz_div, jrem_iz, nz_iz, chk_iz, nm_eq, b2_some, Option.bind_some, b2i_iz, decide_eq_false_iff_not, x_in_iz, m_within_iz, x_isShelf_iz, m_isShelf_iz, x_isCell_iz, x_isMinute_iz, m_isMinute_iz, Decidable.not_not, not_true, not_false_eq_true, if_true, if_false, w3', ma_eq M, Int.reduceEq]
  · simp (disch := omega) only [iz_lit, iz_neg, iz_add, iz_sub, iz_mul, iz_lt, iz_le, iz_eq, iz_clamp, jmax_iz, jmin_iz, jabs_iz, iz_div, jrem_iz, nz_iz, chk_iz, nm_eq, b2_some, Option.bind_some, b2i_iz, decide_eq_false_iff_not, x_in_iz, m_within_iz, x_isShelf_iz, m_isShelf_iz, x_isCell_iz, x_isMinute_iz, m_isMinute_iz, Decidable.not_not, not_true, not_false_eq_true, if_true, if_false, show ¬ w = 0 by omega, show ¬ w = 1 by omega, show ¬ w = 2 by omega, show ¬ w = 3 by omega, ma_eq M]
theorem law_of {X : XS} {M : MS} (h : R X M) (p w : Int32) : sameR (x_of X p w) (m_of M p w) := by
  obtain ⟨p, hp, rfl⟩ := izE p
  obtain ⟨w, hw, rfl⟩ := izE w
  obtain ⟨h1, h2, h3, h4, h5, h6, h7, h8, h9⟩ := h
  have n := h1.1.2
  unfold x_of m_of sameR
  rw [x_isPost_iz h1.1.1 n hp, m_isPost_iz n hp, x_isOf_iz h1 hp hw, m_isOf_iz h1 hp hw]
  by_cases w8 : w = 8
  · by_cases c : 0 ≤ p ∧ p < mi M 0
    · obtain ⟨a, o, q1, q2, -, -, -, -, -, q3⟩ := getP h1 c
      simp (disch := omega) only [iz_lit, iz_neg, iz_add, iz_sub, iz_mul, iz_lt, iz_le, iz_eq, iz_clamp, jmax_iz, jmin_iz, jabs_iz, iz_div, jrem_iz, nz_iz, chk_iz, nm_eq, b2_some, Option.bind_some, b2i_iz, decide_eq_false_iff_not, x_in_iz, m_within_iz, x_isShelf_iz, m_isShelf_iz, x_isCell_iz, x_isMinute_iz, m_isMinute_iz, Decidable.not_not, not_true, not_false_eq_true, if_true, if_false, w8, c, and_self, q1, q2, q3, ma_eq M]
      exact ⟨_, rfl⟩
    · simp (disch := omega) only [iz_lit, iz_neg, iz_add, iz_sub, iz_mul, iz_lt, iz_le, iz_eq, iz_clamp, jmax_iz, jmin_iz, jabs_iz, iz_div, jrem_iz, nz_iz, chk_iz, nm_eq, b2_some, Option.bind_some, b2i_iz, decide_eq_false_iff_not, x_in_iz, m_within_iz, x_isShelf_iz, m_isShelf_iz, x_isCell_iz, x_isMinute_iz, m_isMinute_iz, Decidable.not_not, not_true, not_false_eq_true, if_true, if_false, w8, c]
      exact ⟨_, rfl, rfl⟩
  · simp (disch := omega) only [iz_lit, iz_neg, iz_add, iz_sub, iz_mul, iz_lt, iz_le, iz_eq, iz_clamp, jmax_iz, jmin_iz, jabs_iz, iz_div, jrem_iz, nz_iz, chk_iz, nm_eq, b2_some, Option.bind_some, b2i_iz, decide_eq_false_iff_not, x_in_iz, m_within_iz, x_isShelf_iz, m_isShelf_iz, x_isCell_iz, x_isMinute_iz, m_isMinute_iz, Decidable.not_not, not_true, not_false_eq_true, if_true, if_false, w8]
    by_cases c : okOfB (mi M 0) p w = false
    · rw [if_pos c, if_pos c]; exact ⟨_, rfl, rfl⟩
    · have hk := okOfB_t (by simpa using c)
      rw [if_neg c, if_neg c, x_valueOf_iz h1 hk, m_get_iz h1 hk]
      exact ⟨_, rfl, rfl⟩
/-- what of the changes stands by itself -/
theorem law_undo {X : XS} {M : MS} (h : R X M) : same (x_undo X) (m_undo M) := by
  have hR := h
  obtain ⟨h1, h2, h3, h4, h5, h6, h7, h8, h9⟩ := h
  obtain ⟨⟨a1, a2⟩, ⟨b1, b2, b3⟩, c1, c2⟩ := h2
  unfold x_undo m_undo
  rw [a1, mi_eq M 35]
  by_cases c : mi M 35 = 0
  · simp (disch := omega) only [iz_lit, iz_neg, iz_add, iz_sub, iz_mul, iz_lt, iz_le, iz_eq, iz_clamp, jmax_iz, jmin_iz, jabs_iz, iz_div, jrem_iz, nz_iz, chk_iz, nm_eq, b2_some, Option.bind_some, b2i_iz, decide_eq_false_iff_not, x_in_iz, m_within_iz, x_isShelf_iz, m_isShelf_iz, x_isCell_iz, x_isMinute_iz, m_isMinute_iz, Decidable.not_not, not_true, not_false_eq_true, if_true, if_false, c]
    exact ⟨_, _, _, rfl, rfl, hR⟩
  obtain ⟨k, hk⟩ : ∃ k : Nat, mi M 35 = k + 1 := ⟨(mi M 35 - 1).toNat, by omega⟩
  have e35 : mi (sI M 35 (iz k)) 35 = k := by rw [mi_sI _ _ (by omega), if_pos rfl]
  have e34 : mi (sI M 35 (iz k)) 34 = mi M 34 := by rw [mi_sI _ _ (by omega), if_neg (by decide)]
  have e0 : mi (sI M 35 (iz k)) 0 = mi M 0 := by rw [mi_sI _ _ (by omega), if_neg (by decide)]
  obtain ⟨a, o, q1, q2, q3, q4, q5, q6, q7⟩ := c1 k (by omega)
  have hch := (c2 k (by omega)).1
  have hR1 : R (xI (xI X 7 (iz k)) 8 (iz (mi M 34 - k))) (sI M 35 (iz k)) := by
    refine ⟨h1.cg rfl rfl rfl rfl rfl rfl (fun _ _ q _ => q) rfl rfl rfl rfl rfl rfl rfl, ?_, h3.cg rfl rfl rfl rfl, h4.cg rfl (fun _ _ q _ => q) rfl rfl rfl rfl rfl rfl, h5.cg rfl rfl rfl rfl rfl rfl (Int.le_refl _) rfl rfl rfl, h6.cg rfl rfl rfl rfl rfl rfl rfl rfl rfl (Int.le_refl _) rfl rfl rfl rfl rfl rfl, h7.cg rfl rfl rfl rfl, h8.cg rfl rfl (fun _ _ q _ => q) rfl rfl, h9.cg rfl rfl (fun _ _ q _ => q) rfl rfl rfl rfl⟩
    unfold RC
    rw [e34, e35, e0]
    exact ⟨⟨rfl, rfl⟩, by omega, c1, c2⟩
  obtain ⟨X', M', s1, s2, s3, s4, s5⟩ := set_to hR1.1 (p := ma M 36 (4 * k)) (w := ma M 36 (4 * k + 1)) (v := ma M 36 (4 * k + 2)) hch.1 (by rw [e0]; exact hch.2.1) hch.2.2.1 hch.2.2.2
  have g6 : getO X a 4 = some o := getO_eq q2 q3
  have x7 : (xI (xI X 7 (iz k)) 8 (iz (mi M 34 - k))).1 7 = iz k := rfl
  have f1 : mi M 35 - 1 = k := by omega
  have f2 : mi M 34 - mi M 35 + 1 = mi M 34 - k := by omega
  simp (disch := omega) only [iz_lit, iz_neg, iz_add, iz_sub, iz_mul, iz_lt, iz_le, iz_eq, iz_clamp, jmax_iz, jmin_iz, jabs_iz, iz_div, jrem_iz, nz_iz, chk_iz, nm_eq, b2_some, Option.bind_some, b2i_iz, decide_eq_false_iff_not, x_in_iz, m_within_iz, x_isShelf_iz, m_isShelf_iz, x_isCell_iz, x_isMinute_iz, m_isMinute_iz, Decidable.not_not, not_true, not_false_eq_true, if_true, if_false, c, f1, f2, a2, xI1, sI1, Nat.reduceEqDiff]
  rw [show (xI (xI X 7 (iz k)) 8 (iz (mi M 34 - k))).2.2.1 6 ((k : Int)).toNat = some a from q1]
  simp only [Option.bind_some]
  rw [show getO (xI (xI X 7 (iz k)) 8 (iz (mi M 34 - k))) a 4 = some o from g6]
  simp only [Option.bind_some]
  rw [q4, q5, q6, s1]
  rw [show (4 * (k : Int)).toNat = 4 * k by omega, show (4 * (k : Int) + 1).toNat = 4 * k + 1 by omega, show (4 * (k : Int) + 2).toNat = 4 * k + 2 by omega]
  rw [show (sI M 35 (iz k)).2.1 36 (4 * k) = iz (ma M 36 (4 * k)) from ma_eq M 36 _, show (sI M 35 (iz k)).2.1 36 (4 * k + 1) = iz (ma M 36 (4 * k + 1)) from ma_eq M 36 _, show (sI M 35 (iz k)).2.1 36 (4 * k + 2) = iz (ma M 36 (4 * k + 2)) from ma_eq M 36 _, s2]
  simp only [Option.bind_some]
  refine ⟨_, X', M', rfl, ?_, s3, R_only hR1 s3 s4 s5⟩
  rw [s4.1 7 (by decide) (by decide) (by decide) (by decide), x7, s5.1]
  rfl
theorem law_redo {X : XS} {M : MS} (h : R X M) : same (x_redo X) (m_redo M) := by
  have hR := h
  obtain ⟨h1, h2, h3, h4, h5, h6, h7, h8, h9⟩ := h
  obtain ⟨⟨a1, a2⟩, ⟨b1, b2, b3⟩, c1, c2⟩ := h2
  unfold x_redo m_redo
  rw [a1, a2, mi_eq M 35, mi_eq M 34]
  by_cases c : mi M 35 = mi M 34
  · simp (disch := omega) only [iz_lit, iz_neg, iz_add, iz_sub, iz_mul, iz_lt, iz_le, iz_eq, iz_clamp, jmax_iz, jmin_iz, jabs_iz, iz_div, jrem_iz, nz_iz, chk_iz, nm_eq, b2_some, Option.bind_some, b2i_iz, decide_eq_false_iff_not, x_in_iz, m_within_iz, x_isShelf_iz, m_isShelf_iz, x_isCell_iz, x_isMinute_iz, m_isMinute_iz, Decidable.not_not, not_true, not_false_eq_true, if_true, if_false, c, Int.sub_self]
    exact ⟨_, _, _, rfl, rfl, hR⟩
  obtain ⟨k, hk⟩ : ∃ k : Nat, mi M 35 = k := ⟨(mi M 35).toNat, by omega⟩
  obtain ⟨a, o, q1, q2, q3, q4, q5, q6, q7⟩ := c1 k (by omega)
  have hch := (c2 k (by omega)).2
  obtain ⟨X', M', s1, s2, s3, s4, s5⟩ := set_to h1 (p := ma M 36 (4 * k)) (w := ma M 36 (4 * k + 1)) (v := ma M 36 (4 * k + 3)) hch.1 hch.2.1 hch.2.2.1 hch.2.2.2
  have g6 : getO X a 4 = some o := getO_eq q2 q3
  have f : ¬ mi M 34 - mi M 35 = 0 := by omega
  rw [hk] at c f a1 a2 b1 b2 ⊢
  simp (disch := omega) only [iz_lit, iz_neg, iz_add, iz_sub, iz_mul, iz_lt, iz_le, iz_eq, iz_clamp, jmax_iz, jmin_iz, jabs_iz, iz_div, jrem_iz, nz_iz, chk_iz, nm_eq, b2_some, Option.bind_some, b2i_iz, decide_eq_false_iff_not, x_in_iz, m_within_iz, x_isShelf_iz, m_isShelf_iz, x_isCell_iz, x_isMinute_iz, m_isMinute_iz, Decidable.not_not, not_true, not_false_eq_true, if_true, if_false, c, f, Int.toNat_natCast, q1, g6, q4, q5, q7, s1]
  rw [show (4 * (k : Int)).toNat = 4 * k by omega, show (4 * (k : Int) + 1).toNat = 4 * k + 1 by omega, show (4 * (k : Int) + 3).toNat = 4 * k + 3 by omega, ma_eq M 36, ma_eq M 36, ma_eq M 36, s2]
  simp only [Option.bind_some]
  have hO := R_only hR s3 s4 s5
  have x7 : X'.1 7 = iz k := by rw [s4.1 7 (by decide) (by decide) (by decide) (by decide), a1]
  have x8 : X'.1 8 = iz (mi M 34 - k) := by rw [s4.1 8 (by decide) (by decide) (by decide) (by decide), a2]
  have m34 : M'.1 34 = iz (mi M 34) := by rw [s5.1, ← mi_eq]
  have m35 : M'.1 35 = iz k := by rw [s5.1, mi_eq, hk]
  have e34 : mi M' 34 = mi M 34 := by unfold mi; rw [s5.1]
  have e35 : mi M' 35 = k := by rw [← hk]; unfold mi; rw [s5.1]
  have e0 : mi M' 0 = mi M 0 := by unfold mi; rw [s5.1]
  simp (disch := omega) only [iz_lit, iz_neg, iz_add, iz_sub, iz_mul, iz_lt, iz_le, iz_eq, iz_clamp, jmax_iz, jmin_iz, jabs_iz, iz_div, jrem_iz, nz_iz, chk_iz, nm_eq, b2_some, Option.bind_some, b2i_iz, decide_eq_false_iff_not, x_in_iz, m_within_iz, x_isShelf_iz, m_isShelf_iz, x_isCell_iz, x_isMinute_iz, m_isMinute_iz, Decidable.not_not, not_true, not_false_eq_true, if_true, if_false, xI1, xI2, xA1, xA21, xA22, xR1, xR21, xR22, xR23, xO1, xO21, xO22, xO23, sI1, sI2, sA1, sA21, sA22, sL1, sL21, sL22, oI1, oI21, oI22, x7, x8, m34, m35, Nat.reduceEqDiff]
  rw [show mi M 34 - (k : Int) - 1 = mi M 34 - ((k : Int) + 1) by omega]
  refine ⟨_, _, _, rfl, rfl, ?_⟩
  obtain ⟨g2, g3, g4, g5, g6, g7, g8, g9⟩ := hO
  have gh1 := s3
  refine ⟨s3.cg rfl rfl rfl rfl rfl rfl (fun _ _ q _ => q) rfl rfl rfl rfl rfl rfl rfl, ?_, g3.cg rfl rfl rfl rfl, g4.cg rfl (fun _ _ q _ => q) rfl rfl rfl rfl rfl rfl, g5.cg rfl rfl rfl rfl rfl rfl (Int.le_refl _) rfl rfl rfl, g6.cg rfl rfl rfl rfl rfl rfl rfl rfl rfl (Int.le_refl _) rfl rfl rfl rfl rfl rfl, g7.cg rfl rfl rfl rfl, g8.cg rfl rfl (fun _ _ q _ => q) rfl rfl, g9.cg rfl rfl (fun _ _ q _ => q) rfl rfl rfl rfl⟩
  have u35 : mi (sI M' 35 (iz ((k : Int) + 1))) 35 = (k : Int) + 1 := by rw [mi_sI _ _ (by omega), if_pos rfl]
  have u34 : mi (sI M' 35 (iz ((k : Int) + 1))) 34 = mi M' 34 := by rw [mi_sI _ _ (by omega), if_neg (by decide)]
  have u0 : mi (sI M' 35 (iz ((k : Int) + 1))) 0 = mi M' 0 := by rw [mi_sI _ _ (by omega), if_neg (by decide)]
  obtain ⟨r1, r2, r3, r4⟩ := g2
  unfold RC
  rw [u35, u34, u0, e34]
  exact ⟨⟨rfl, rfl⟩, by omega, by rw [e34] at r3; exact r3, by rw [e34] at r4; exact r4⟩
