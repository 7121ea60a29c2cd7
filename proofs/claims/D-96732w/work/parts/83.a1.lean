/-! PLAIN LAW: small operations. Own text. -/
set_option maxRecDepth 100000
theorem b2i_iz {b : Bool} : (b2i b = iz 0) ↔ b = false := by cases b <;> decide
theorem i64_iz {a : Int} (h : -2147483648 ≤ a ∧ a ≤ 2147483647) : (iz a).toInt64.toInt = a := by rw [Int32.toInt_toInt64, iz_toInt h]
theorem x_isShelf_iz {a : Int} (h : -2147483648 ≤ a ∧ a ≤ 2147483647) : x_isShelf (iz a) = some (decide (0 ≤ a ∧ a ≤ 5)) := by
  unfold x_isShelf
  rw [show (0 : Int32) = iz 0 from rfl, show (5 : Int32) = iz 5 from rfl, x_in_iz (by omega)]
  rfl
theorem m_isShelf_iz {a : Int} (h : -2147483648 ≤ a ∧ a ≤ 2147483647) : m_isShelf (iz a) = some (decide (0 ≤ a ∧ a ≤ 5)) := x_isShelf_iz h
theorem x_isCell_iz {a : Int} (h : -2147483648 ≤ a ∧ a ≤ 2147483647) : x_isCell (iz a) = some (decide (0 ≤ a ∧ a ≤ 15)) := by
  unfold x_isCell
  rw [show (0 : Int32) = iz 0 from rfl, show (15 : Int32) = iz 15 from rfl, x_in_iz (by omega)]
  rfl
theorem x_isMinute_iz {a : Int} (h : -2147483648 ≤ a ∧ a ≤ 2147483647) : x_isMinute (iz a) = some (decide (0 ≤ a ∧ a ≤ 999)) := by
  unfold x_isMinute
  rw [show (0 : Int32) = iz 0 from rfl, show (999 : Int32) = iz 999 from rfl, x_in_iz (by omega)]
  rfl
theorem m_isMinute_iz {a : Int} (h : -2147483648 ≤ a ∧ a ≤ 2147483647) : m_isMinute (iz a) = some (decide (0 ≤ a ∧ a ≤ 999)) := x_isMinute_iz h
theorem x_isPost_iz {X : XS} {n a : Int} (hX : X.1 1 = iz n) (hn : 0 ≤ n ∧ n ≤ 9) (h : -2147483648 ≤ a ∧ a ≤ 2147483647) : x_isPost X (iz a) = some (decide (0 ≤ a ∧ a < n)) := by
  unfold x_isPost
  rw [hX, show (0 : Int32) = iz 0 from rfl, show (1 : Int32) = iz 1 from rfl, iz_sub, x_in_iz (by omega)]
  have : (0 ≤ a ∧ a ≤ n - 1) ↔ (0 ≤ a ∧ a < n) := by omega
  simp only [this, Option.bind_some]
theorem m_isPost_iz {M : MS} (hn : 0 ≤ mi M 0 ∧ mi M 0 ≤ 9) {a : Int} (h : -2147483648 ≤ a ∧ a ≤ 2147483647) : m_isPost M (iz a).toInt64 = some (decide (0 ≤ a ∧ a < mi M 0)) := by
  unfold m_isPost
  have e1 : (lg_cmp (iz a).toInt64 0 < 0) ↔ a < 0 := by rw [lg_cmp_lt, Int64.lt_iff_toInt_lt, i64_iz h]; exact Iff.rfl
  have e2 : (0 ≤ lg_cmp (iz a).toInt64 (M.1 0).toInt64) ↔ mi M 0 ≤ a := by rw [lg_cmp_ge, Int64.le_iff_toInt_le, i64_iz h, mi_eq, i64_iz (mi_R M 0)]
  by_cases c1 : a < 0
  · rw [if_pos (e1.mpr c1), decide_eq_false (by omega)]
  · rw [if_neg (fun q => c1 (e1.mp q))]
    by_cases c2 : mi M 0 ≤ a
    · rw [if_pos (e2.mpr c2), decide_eq_false (by omega)]
    · rw [if_neg (fun q => c2 (e2.mp q)), decide_eq_true (by omega)]
/-- what an operation owes -/
def same (x : Option (Int32 × XS)) (m : Option (Int32 × MS)) : Prop := ∃ v X' M', x = some (v, X') ∧ m = some (v, M') ∧ R X' M'
def sameR (x m : Option Int32) : Prop := ∃ v, x = some v ∧ m = some v
def sameX (M : MS) (x : Option (Int32 × XS)) (m : Option Int32) : Prop := ∃ v X', x = some (v, X') ∧ m = some v ∧ R X' M
theorem xO_keep {S : XS} {a : Nat} {x : XO} {t : Nat} (h : ∀ o, S.2.2.2 a = some o → o.1 = t) {b : Nat} {o : XO} (ho : S.2.2.2 b = some o) (ht : o.1 ≠ t) : (xO S a x).2.2.2 b = some o := by
  rw [xO23, if_neg (fun e => by subst e; exact ht (h o ho)), ho]
theorem law_waits {X : XS} {M : MS} (h : R X M) (p : Int32) : same (x_waits X p) (m_waits M p) := by
  obtain ⟨z, hz, rfl⟩ := izE p
  have hR := h
  obtain ⟨h1, h2, h3, h4, h5, h6, h7, h8, h9⟩ := h
  obtain ⟨⟨a1, a2, a3⟩, ⟨b1, b2, b3⟩, c1, c2, c3, c4⟩ := h5
  unfold x_waits m_waits
  by_cases c : 1 ≤ z ∧ z ≤ 999
  · simp (disch := omega) only [iz_lit, iz_neg, iz_add, iz_sub, iz_mul, iz_lt, iz_le, iz_eq, iz_clamp, jmax_iz, jmin_iz, jabs_iz, iz_div, jrem_iz, nz_iz, chk_iz, nm_eq, b2_some, Option.bind_some, b2i_iz, decide_eq_false_iff_not, x_in_iz, m_within_iz, x_isShelf_iz, m_isShelf_iz, x_isCell_iz, x_isMinute_iz, m_isMinute_iz, Decidable.not_not, not_true, not_false_eq_true, if_true, if_false, b1, mi_eq M 25, c, and_self]
    by_cases q : mi M 25 + z ≤ 9999
    · rw [if_pos q, if_pos q]
      refine ⟨_, _, _, rfl, rfl, ?_⟩
      have e : (iz (mi M 25 + z)).toInt = mi M 25 + z := iz_toInt (by omega)
      refine ⟨h1.cg rfl rfl rfl rfl rfl rfl (fun _ _ q _ => q) rfl rfl rfl rfl rfl rfl rfl, h2.cg rfl rfl rfl (fun _ _ q _ => q) (Int.le_refl _) rfl rfl rfl, h3.cg rfl rfl rfl rfl, h4.cg rfl (fun _ _ q _ => q) rfl rfl rfl rfl rfl rfl, ?_, h6.cg rfl rfl rfl rfl rfl rfl rfl rfl rfl (Int.le_refl _) rfl rfl rfl rfl rfl rfl, h7.cg rfl rfl rfl rfl, h8.cg rfl rfl (fun _ _ q _ => q) rfl rfl, h9.cg rfl rfl (fun _ _ q _ => q) rfl rfl rfl rfl⟩
      refine ⟨⟨a1, a2, a3⟩, ⟨?_, ?_, ?_⟩, c1, c2, c3, ?_⟩
      · show iz (mi M 25 + z) = iz (iz (mi M 25 + z)).toInt
        rw [e]
      · show 0 ≤ (iz (mi M 25 + z)).toInt
        rw [e]; omega
      · show (iz (mi M 25 + z)).toInt ≤ 9999
        rw [e]; omega
      · show X.1 34 + iz z = M.2.1 27 3 + iz z
        rw [c4]
    · rw [if_neg q, if_neg q]
      exact ⟨_, _, _, rfl, rfl, hR⟩
  · simp (disch := omega) only [iz_lit, iz_neg, iz_add, iz_sub, iz_mul, iz_lt, iz_le, iz_eq, iz_clamp, jmax_iz, jmin_iz, jabs_iz, iz_div, jrem_iz, nz_iz, chk_iz, nm_eq, b2_some, Option.bind_some, b2i_iz, decide_eq_false_iff_not, x_in_iz, m_within_iz, x_isShelf_iz, m_isShelf_iz, x_isCell_iz, x_isMinute_iz, m_isMinute_iz, Decidable.not_not, not_true, not_false_eq_true, if_true, if_false, c]
    exact ⟨_, _, _, rfl, rfl, hR⟩
theorem law_led {X : XS} {M : MS} (h : R X M) (p : Int32) : sameR (x_led X p) (m_led M p) := by
  obtain ⟨z, hz, rfl⟩ := izE p
  obtain ⟨h1, h2, h3, h4, h5, h6, h7, h8, h9⟩ := h
  obtain ⟨⟨a1, a2, a3⟩, ⟨b1, b2, b3⟩, c1, c2, c3, c4⟩ := h5
  unfold x_led m_led sameR
  rw [c1, c2, c3, c4, b1, ← mi_eq M 25]
  by_cases q4 : z = 4
  · subst q4
    simp (disch := omega) only [iz_lit, iz_neg, iz_add, iz_sub, iz_mul, iz_lt, iz_le, iz_eq, iz_clamp, jmax_iz, jmin_iz, jabs_iz, iz_div, jrem_iz, nz_iz, chk_iz, nm_eq, b2_some, Option.bind_some, b2i_iz, decide_eq_false_iff_not, x_in_iz, m_within_iz, x_isShelf_iz, m_isShelf_iz, x_isCell_iz, x_isMinute_iz, m_isMinute_iz, Decidable.not_not, not_true, not_false_eq_true, if_true, if_false, Int.reduceEq]
    exact ⟨_, rfl, rfl⟩
  by_cases q0 : z = 0
  · subst q0
    simp (disch := omega) only [iz_lit, iz_neg, iz_add, iz_sub, iz_mul, iz_lt, iz_le, iz_eq, iz_clamp, jmax_iz, jmin_iz, jabs_iz, iz_div, jrem_iz, nz_iz, chk_iz, nm_eq, b2_some, Option.bind_some, b2i_iz, decide_eq_false_iff_not, x_in_iz, m_within_iz, x_isShelf_iz, m_isShelf_iz, x_isCell_iz, x_isMinute_iz, m_isMinute_iz, Decidable.not_not, not_true, not_false_eq_true, if_true, if_false, Int.reduceEq, Int.reduceLE, and_self]
    exact ⟨_, rfl, rfl⟩
  by_cases q1 : z = 1
  · subst q1
    simp (disch := omega) only [iz_lit, iz_neg, iz_add, iz_sub, iz_mul, iz_lt, iz_le, iz_eq, iz_clamp, jmax_iz, jmin_iz, jabs_iz, iz_div, jrem_iz, nz_iz, chk_iz, nm_eq, b2_some, Option.bind_some, b2i_iz, decide_eq_false_iff_not, x_in_iz, m_within_iz, x_isShelf_iz, m_isShelf_iz, x_isCell_iz, x_isMinute_iz, m_isMinute_iz, Decidable.not_not, not_true, not_false_eq_true, if_true, if_false, Int.reduceEq, Int.reduceLE, and_self]
    exact ⟨_, rfl, rfl⟩
  by_cases q2 : z = 2
  · subst q2
    simp (disch := omega) only [iz_lit, iz_neg, iz_add, iz_sub, iz_mul, iz_lt, iz_le, iz_eq, iz_clamp, jmax_iz, jmin_iz, jabs_iz, iz_div, jrem_iz, nz_iz, chk_iz, nm_eq, b2_some, Option.bind_some, b2i_iz, decide_eq_false_iff_not, x_in_iz, m_within_iz, x_isShelf_iz, m_isShelf_iz, x_isCell_iz, x_isMinute_iz, m_isMinute_iz, Decidable.not_not, not_true, not_false_eq_true, if_true, if_false, Int.reduceEq, Int.reduceLE, and_self]
    exact ⟨_, rfl, rfl⟩
  by_cases q3 : z = 3
  · subst q3
    simp (disch := omega) only [iz_lit, iz_neg, iz_add, iz_sub, iz_mul, iz_lt, iz_le, iz_eq, iz_clamp, jmax_iz, jmin_iz, jabs_iz, iz_div, jrem_iz, nz_iz, chk_iz, nm_eq, b2_some, Option.bind_some, b2i_iz, decide_eq_false_iff_not, x_in_iz, m_within_iz, x_isShelf_iz, m_isShelf_iz, x_isCell_iz, x_isMinute_iz, m_isMinute_iz, Decidable.not_not, not_true, not_false_eq_true, if_true, if_false, Int.reduceEq, Int.reduceLE, and_self]
    exact ⟨_, rfl, rfl⟩
  have c : ¬ (0 ≤ z ∧ z ≤ 3) := by omega
  simp (disch := omega) only [iz_lit, iz_neg, iz_add, iz_sub, iz_mul, iz_lt, iz_le, iz_eq, iz_clamp, jmax_iz, jmin_iz, jabs_iz, iz_div, jrem_iz, nz_iz, chk_iz, nm_eq, b2_some, Option.bind_some, b2i_iz, decide_eq_false_iff_not, x_in_iz, m_within_iz, x_isShelf_iz, m_isShelf_iz, x_isCell_iz, x_isMinute_iz, m_isMinute_iz, Decidable.not_not, not_true, not_false_eq_true, if_true, if_false, q0, q1, q2, q3, q4, c]
  exact ⟨_, rfl, rfl⟩
theorem law_count {X : XS} {M : MS} (h : R X M) (p : Int32) : sameR (x_count X p) (m_count M p) := by
  obtain ⟨h1, h2, h3, h4, h5, h6, h7, h8, h9⟩ := h
  unfold x_count m_count sameR
  rw [h1.1.1, h2.1.1, h3.1.1, h7.1.1, h8.1.1, ← mi_eq, ← mi_eq, ← mi_eq, ← mi_eq, ← mi_eq]
  (repeat' split) <;> exact ⟨_, rfl, rfl⟩
theorem law_trace {X : XS} {M : MS} (h : R X M) (p : Int32) : sameR (x_trace X p) (m_trace M p) := by
  obtain ⟨z, hz, rfl⟩ := izE p
  obtain ⟨h1, h2, h3, h4, h5, h6, h7, h8, h9⟩ := h
  obtain ⟨⟨a1, a2, a3⟩, a4⟩ := h7
  unfold x_trace m_trace sameR
  simp (disch := omega) only [iz_lit, iz_neg, iz_add, iz_sub, iz_mul, iz_lt, iz_le, iz_eq, iz_clamp, jmax_iz, jmin_iz, jabs_iz, iz_div, jrem_iz, nz_iz, chk_iz, nm_eq, b2_some, Option.bind_some, b2i_iz, decide_eq_false_iff_not, x_in_iz, m_within_iz, x_isShelf_iz, m_isShelf_iz, x_isCell_iz, x_isMinute_iz, m_isMinute_iz, Decidable.not_not, not_true, not_false_eq_true, if_true, if_false, a1, mi_eq M 39]
  by_cases c : 0 ≤ z ∧ z ≤ min 24 (mi M 39) - 1
  · have d1 : ¬ z < 0 := by omega
    have d2 : ¬ mi M 39 ≤ z := by omega
    have d3 : ¬ 24 ≤ z := by omega
    simp (disch := omega) only [iz_lit, iz_neg, iz_add, iz_sub, iz_mul, iz_lt, iz_le, iz_eq, iz_clamp, jmax_iz, jmin_iz, jabs_iz, iz_div, jrem_iz, nz_iz, chk_iz, nm_eq, b2_some, Option.bind_some, b2i_iz, decide_eq_false_iff_not, x_in_iz, m_within_iz, x_isShelf_iz, m_isShelf_iz, x_isCell_iz, x_isMinute_iz, m_isMinute_iz, Decidable.not_not, not_true, not_false_eq_true, if_true, if_false, c, d1, d2, d3, and_self]
    exact ⟨_, rfl, by rw [a4 z.toNat (by omega) (by omega)]⟩
  · simp (disch := omega) only [iz_lit, iz_neg, iz_add, iz_sub, iz_mul, iz_lt, iz_le, iz_eq, iz_clamp, jmax_iz, jmin_iz, jabs_iz, iz_div, jrem_iz, nz_iz, chk_iz, nm_eq, b2_some, Option.bind_some, b2i_iz, decide_eq_false_iff_not, x_in_iz, m_within_iz, x_isShelf_iz, m_isShelf_iz, x_isCell_iz, x_isMinute_iz, m_isMinute_iz, Decidable.not_not, not_true, not_false_eq_true, if_true, if_false, c]
    by_cases d1 : z < 0
    · rw [if_pos d1]; exact ⟨_, rfl, rfl⟩
    rw [if_neg d1]
    by_cases d2 : mi M 39 ≤ z
    · rw [if_pos d2]; exact ⟨_, rfl, rfl⟩
    rw [if_neg d2, if_pos (by omega)]
    exact ⟨_, rfl, rfl⟩
theorem law_feed {X : XS} {M : MS} (h : R X M) (p : Int32) : same (x_feed X p) (m_feed M p) := by
  obtain ⟨z, hz, rfl⟩ := izE p
  have hR := h
  obtain ⟨h1, h2, h3, h4, h5, h6, h7, h8, h9⟩ := h
  obtain ⟨⟨a1, a2, a3⟩, a4⟩ := h3
  unfold x_feed m_feed
  by_cases c : 0 ≤ z ∧ z ≤ 255
  · simp (disch := omega) only [iz_lit, iz_neg, iz_add, iz_sub, iz_mul, iz_lt, iz_le, iz_eq, iz_clamp, jmax_iz, jmin_iz, jabs_iz, iz_div, jrem_iz, nz_iz, chk_iz, nm_eq, b2_some, Option.bind_some, b2i_iz, decide_eq_false_iff_not, x_in_iz, m_within_iz, x_isShelf_iz, m_isShelf_iz, x_isCell_iz, x_isMinute_iz, m_isMinute_iz, Decidable.not_not, not_true, not_false_eq_true, if_true, if_false, a1, mi_eq M 6, c, and_self]
    by_cases q : mi M 6 = 120
    · rw [if_pos q, if_pos q]
      exact ⟨_, _, _, rfl, rfl, hR⟩
    · rw [if_neg q, if_neg q]
      simp (disch := omega) only [iz_lit, iz_neg, iz_add, iz_sub, iz_mul, iz_lt, iz_le, iz_eq, iz_clamp, jmax_iz, jmin_iz, jabs_iz, iz_div, jrem_iz, nz_iz, chk_iz, nm_eq, b2_some, Option.bind_some, b2i_iz, decide_eq_false_iff_not, x_in_iz, m_within_iz, x_isShelf_iz, m_isShelf_iz, x_isCell_iz, x_isMinute_iz, m_isMinute_iz, Decidable.not_not, not_true, not_false_eq_true, if_true, if_false, xI1, xI2, xA1, xA21, xA22, xR1, xR21, xR22, xR23, xO1, xO21, xO22, xO23, sI1, sI2, sA1, sA21, sA22, sL1, sL21, sL22, oI1, oI21, oI22, a1]
      refine ⟨_, _, _, rfl, rfl, ?_⟩
      refine ⟨h1.cg rfl rfl rfl rfl rfl rfl (fun _ _ q _ => q) rfl rfl rfl rfl rfl rfl rfl, h2.cg rfl rfl rfl (fun _ _ q _ => q) (Int.le_refl _) rfl rfl rfl, ?_, h4.cg rfl (fun _ _ q _ => q) rfl rfl rfl rfl rfl rfl, h5.cg rfl rfl rfl rfl rfl rfl (Int.le_refl _) rfl rfl rfl, h6.cg rfl rfl rfl rfl rfl rfl rfl rfl rfl (Int.le_refl _) rfl rfl rfl rfl rfl rfl, h7.cg rfl rfl rfl rfl, h8.cg rfl rfl (fun _ _ q _ => q) rfl rfl, h9.cg rfl rfl (fun _ _ q _ => q) rfl rfl rfl rfl⟩
      have e : (iz (mi M 6 + 1)).toInt = mi M 6 + 1 := iz_toInt (by omega)
      refine ⟨⟨?_, ?_, ?_⟩, fun k hk => ?_⟩
      · show iz (mi M 6 + 1) = iz (iz (mi M 6 + 1)).toInt
        rw [e]
      · show 0 ≤ (iz (mi M 6 + 1)).toInt
        rw [e]; omega
      · show (iz (mi M 6 + 1)).toInt ≤ 120
        rw [e]; omega
      · replace hk : (k : Int) < (iz (mi M 6 + 1)).toInt := hk
        rw [e] at hk
        rw [ma_sA _ _ _ hz, if_pos rfl]
        simp only [xI1, xI2, xA1, xA21, xA22, xR1, xR21, xR22, xR23, xO1, xO21, xO22, xO23, sI1, sI2, sA1, sA21, sA22, sL1, sL21, sL22, oI1, oI21, oI22, if_true]
        by_cases hk2 : k = (mi M 6).toNat
        · subst hk2
          simp only [if_true]
          exact ⟨c, trivial⟩
        · simp only [hk2, if_false]
          exact a4 k (by omega)
  · simp (disch := omega) only [iz_lit, iz_neg, iz_add, iz_sub, iz_mul, iz_lt, iz_le, iz_eq, iz_clamp, jmax_iz, jmin_iz, jabs_iz, iz_div, jrem_iz, nz_iz, chk_iz, nm_eq, b2_some, Option.bind_some, b2i_iz, decide_eq_false_iff_not, x_in_iz, m_within_iz, x_isShelf_iz, m_isShelf_iz, x_isCell_iz, x_isMinute_iz, m_isMinute_iz, Decidable.not_not, not_true, not_false_eq_true, if_true, if_false, c]
    exact ⟨_, _, _, rfl, rfl, hR⟩
