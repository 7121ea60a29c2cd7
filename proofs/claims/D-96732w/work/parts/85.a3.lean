/-! PLAIN LAW: changes. Own text. -/
set_option maxRecDepth 100000
theorem fit_R {w v : Int} (h : fitV w v) : 0 ≤ v ∧ v ≤ 999 := by
  unfold fitV at h
  by_cases c1 : w = 2 ∨ w = 7
  · rw [if_pos c1] at h; omega
  · rw [if_neg c1] at h
    by_cases c2 : w = 3
    · rw [if_pos c2] at h; omega
    · rw [if_neg c2] at h
      by_cases c3 : w = 6
      · rw [if_pos c3] at h; omega
      · rw [if_neg c3] at h; omega
theorem RP_set {X : XS} {M : MS} (h : RP X M) {p a : Nat} {o : XO} (hp : (p : Int) < mi M 0) (ha : X.2.2.1 0 p = some a) (ho : X.2.2.2 a = some o) {j : Nat} (hj : j < 4) {v : Int} (hv : fitV j v) : RP (xO X a (oI o j (iz v))) (sA M (j + 1) p (iz v)) := by
  have r := fit_R hv
  have hm : ∀ k i : Nat, k ≠ j + 1 → ma (sA M (j + 1) p (iz v)) k i = ma M k i := fun k i q => by rw [ma_sA _ _ _ (by omega), if_neg q]
  have hm2 : ∀ i : Nat, ma (sA M (j + 1) p (iz v)) (j + 1) i = if i = p then v else ma M (j + 1) i := fun i => by rw [ma_sA _ _ _ (by omega), if_pos rfl]
  obtain ⟨h1, h2, h3, h4, h5, h6, h7⟩ := h
  have m0 : mi (sA M (j + 1) p (iz v)) 0 = mi M 0 := rfl
  unfold RP
  rw [m0]
  refine ⟨h1, ?_, ?_, fun q hq => ?_, fun q hq => ?_, h6, fun q g1 g2 => ?_⟩
  · rw [hm 5 0 (by omega), hm 5 1 (by omega), hm 5 2 (by omega), hm 5 3 (by omega)]; exact h2
  · rw [hm 5 0 (by omega), hm 5 1 (by omega), hm 5 2 (by omega), hm 5 3 (by omega)]; exact h3
  · obtain ⟨b, u, q1, q2, q3, q4⟩ := h4 q hq
    by_cases c : q = p
    · subst c
      have e1 : b = a := Option.some.inj (q1.symm.trans ha)
      subst e1
      have e2 : u = o := Option.some.inj (q2.symm.trans ho)
      subst e2
      have f : ∀ i : Nat, u.2.1 i = iz (ma M (i + 1) q) → (oI u j (iz v)).2.1 i = iz (ma (sA M (j + 1) q (iz v)) (i + 1) q) := by
        intro i hi
        rw [oI21]
        by_cases ci : i = j
        · rw [if_pos ci, ci, hm2, if_pos rfl]
        · rw [if_neg ci, hm (i + 1) q (by omega), hi]
      refine ⟨b, oI u j (iz v), q1, by rw [xO23, if_pos rfl], q3, f 0 q4.1, f 1 q4.2.1, f 2 q4.2.2.1, f 3 q4.2.2.2.1, ?_⟩
      rw [oI21, if_neg (by omega), hm 26 q (by omega)]
      exact q4.2.2.2.2
    · have hba : b ≠ a := fun z => c (h6 q p hq hp (by rw [q1, ha, z]))
      have f : ∀ k : Nat, ma (sA M (j + 1) p (iz v)) k q = ma M k q := fun k => by
        by_cases ck : k = j + 1
        · subst ck; rw [hm2, if_neg c]
        · exact hm k q ck
      rw [f 1, f 2, f 3, f 4, f 26]
      exact ⟨b, u, q1, by rw [xO23, if_neg hba]; exact q2, q3, q4⟩
  · have g := h5 q hq
    have f : ∀ k : Nat, ma (sA M (j + 1) p (iz v)) k q = if k = j + 1 ∧ q = p then v else ma M k q := fun k => by
      by_cases ck : k = j + 1
      · subst ck
        rw [hm2]
        by_cases c : q = p
        · rw [if_pos c, if_pos ⟨rfl, c⟩]
        · rw [if_neg c, if_neg (fun z => c z.2)]
      · rw [hm k q ck, if_neg (fun z => ck z.1)]
    rw [f 1, f 2, f 3, f 4]
    unfold fitV at hv
    rcases j with _ | _ | _ | _ | j
    · replace hv : 0 ≤ v ∧ v ≤ 15 := hv
      by_cases c : q = p <;> simp [c] <;> (try subst c) <;> omega
    · replace hv : 0 ≤ v ∧ v ≤ 15 := hv
      by_cases c : q = p <;> simp [c] <;> (try subst c) <;> omega
    · replace hv : 0 ≤ v ∧ v ≤ 9 := hv
      by_cases c : q = p <;> simp [c] <;> (try subst c) <;> omega
    · replace hv : 1 ≤ v ∧ v ≤ 999 := hv
      by_cases c : q = p <;> simp [c] <;> (try subst c) <;> omega
    · omega
  · rw [hm 26 q (by omega)]
    exact h7 q g1 g2
theorem RP_gate {X : XS} {M : MS} (h : RP X M) {i : Nat} (hi : i < 4) {v : Int} (hv : fitV (4 + i) v) : RP (xI X (2 + i) (iz v)) (sA M 5 i (iz v)) := by
  have r := fit_R hv
  have hm : ∀ k j : Nat, k ≠ 5 → ma (sA M 5 i (iz v)) k j = ma M k j := fun k j q => by rw [ma_sA _ _ _ (by omega), if_neg q]
  have hm2 : ∀ j : Nat, ma (sA M 5 i (iz v)) 5 j = if j = i then v else ma M 5 j := fun j => by rw [ma_sA _ _ _ (by omega), if_pos rfl]
  obtain ⟨h1, h2, h3, h4, h5, h6, h7⟩ := h
  have m0 : mi (sA M 5 i (iz v)) 0 = mi M 0 := rfl
  unfold RP
  rw [m0]
  refine ⟨?_, ?_, ?_, fun q hq => ?_, fun q hq => ?_, h6, fun q g1 g2 => ?_⟩
  · rw [xI1, if_neg (by omega)]; exact h1
  · have f : ∀ j : Nat, j < 4 → X.1 (2 + j) = iz (ma M 5 j) → (xI X (2 + i) (iz v)).1 (2 + j) = iz (ma (sA M 5 i (iz v)) 5 j) := by
      intro j hj e
      rw [xI1, hm2]
      by_cases c : j = i
      · rw [if_pos (by omega), if_pos c]
      · rw [if_neg (by omega), if_neg c, e]
    exact ⟨f 0 (by omega) h2.1, f 1 (by omega) h2.2.1, f 2 (by omega) h2.2.2.1, f 3 (by omega) h2.2.2.2⟩
  · rw [hm2, hm2, hm2, hm2]
    unfold fitV at hv
    rcases i with _ | _ | _ | _ | i
    · replace hv : 0 ≤ v ∧ v ≤ 15 := hv
      simp; omega
    · replace hv : 0 ≤ v ∧ v ≤ 15 := hv
      simp; omega
    · replace hv : 1 ≤ v ∧ v ≤ 9 := hv
      simp; omega
    · replace hv : 0 ≤ v ∧ v ≤ 9 := hv
      simp; omega
    · omega
  · rw [hm 1 q (by omega), hm 2 q (by omega), hm 3 q (by omega), hm 4 q (by omega), hm 26 q (by omega)]
    exact h4 q hq
  · rw [hm 1 q (by omega), hm 2 q (by omega), hm 3 q (by omega), hm 4 q (by omega)]
    exact h5 q hq
  · rw [hm 26 q (by omega)]
    exact h7 q g1 g2
/-- nothing but posts and gate -/
def onlyX (X X' : XS) : Prop := (∀ k, k ≠ 2 → k ≠ 3 → k ≠ 4 → k ≠ 5 → X'.1 k = X.1 k) ∧ X'.2.1 = X.2.1 ∧ X'.2.2.1 = X.2.2.1 ∧ (∀ (b : Nat) (o : XO), X.2.2.2 b = some o → o.1 ≠ 3 → X'.2.2.2 b = some o)
def onlyM (M M' : MS) : Prop := M'.1 = M.1 ∧ (∀ k, k ≠ 1 → k ≠ 2 → k ≠ 3 → k ≠ 4 → k ≠ 5 → M'.2.1 k = M.2.1 k) ∧ M'.2.2 = M.2.2
theorem set_to {X : XS} {M : MS} (h : RP X M) {p w v : Int} (hw : 0 ≤ w ∧ w ≤ 7) (hp : w ≤ 3 → 0 ≤ p ∧ p < mi M 0) (hp2 : 4 ≤ w → p = 0) (hv : fitV w v) : ∃ X' M', x_setTo X (iz w) (iz p) (iz v) = some X' ∧ m_becomes M (iz p) (iz w) (iz v) = some M' ∧ RP X' M' ∧ onlyX X X' ∧ onlyM M M' := by
  have n := h.1.2
  have obj : ∀ j : Nat, j < 4 → w = j → ∃ a o, X.2.2.1 0 p.toNat = some a ∧ getO X a 3 = some o ∧ RP (xO X a (oI o j (iz v))) (sA M (j + 1) p.toNat (iz v)) ∧ onlyX X (xO X a (oI o j (iz v))) ∧ onlyM M (sA M (j + 1) p.toNat (iz v)) := by
    intro j hj e
    have hp' := hp (by omega)
    obtain ⟨a, o, q1, q2, q3, -⟩ := getP h hp'
    have q5 := (getO_some q2).1
    refine ⟨a, o, q1, q2, RP_set h (by omega) q1 q5 hj (by rw [← e]; exact hv), ⟨fun _ _ _ _ _ => rfl, rfl, rfl, fun b u hu ht => xO_keep (tag3 q5 q3) hu ht⟩, rfl, fun k _ _ _ _ _ => ?_, rfl⟩
    funext i
    rw [sA21, if_neg (by omega)]
  have gat : ∀ i : Nat, i < 4 → w = 4 + i → RP (xI X (2 + i) (iz v)) (sA M 5 i (iz v)) ∧ onlyX X (xI X (2 + i) (iz v)) ∧ onlyM M (sA M 5 i (iz v)) := by
    intro i hi e
    refine ⟨RP_gate h hi (by rw [show (4 : Int) + i = w by omega]; exact hv), ⟨fun k _ _ _ _ => ?_, rfl, rfl, fun _ _ q _ => q⟩, rfl, fun k _ _ _ _ _ => ?_, rfl⟩
    · rw [xI1, if_neg (by omega)]
    · funext j
      rw [sA21, if_neg (by omega)]
  unfold x_setTo m_becomes
  by_cases w0 : w = 0
  · obtain ⟨a, o, q1, q2, g⟩ := obj 0 (by omega) w0
    have hp' := hp (by omega)
    simp (disch := omega) only [iz_lit, iz_neg, iz_add, iz_sub, iz_mul, iz_lt, iz_le, iz_eq, iz_clamp, jmax_iz, jmin_iz, jabs_iz, iz_div, jrem_iz, nz_iz, chk_iz, nm_eq, b2_some, Option.bind_some, b2i_iz, decide_eq_false_iff_not, x_in_iz, m_within_iz, x_isShelf_iz, m_isShelf_iz, x_isCell_iz, x_isMinute_iz, m_isMinute_iz, Decidable.not_not, not_true, not_false_eq_true, if_true, if_false, w0, q1, q2, Int.reduceEq]
    exact ⟨_, _, rfl, rfl, g⟩
  by_cases w1 : w = 1
  · obtain ⟨a, o, q1, q2, g⟩ := obj 1 (by omega) w1
    have hp' := hp (by omega)
    simp (disch := omega) only [iz_lit, iz_neg, iz_add, iz_sub, iz_mul, iz_lt, iz_le, iz_eq, iz_clamp, jmax_iz, jmin_iz, jabs_iz, iz_div, jrem_iz, nz_iz, chk_iz, nm_eq, b2_some, Option.bind_some, b2i_iz, decide_eq_false_iff_not, x_in_iz, m_within_iz, x_isShelf_iz, m_isShelf_iz, x_isCell_iz, x_isMinute_iz, m_isMinute_iz, Decidable.not_not, not_true, not_false_eq_true, if_true, if_false, w1, q1, q2, Int.reduceEq]
    exact ⟨_, _, rfl, rfl, g⟩
  by_cases w2 : w = 2
  · obtain ⟨a, o, q1, q2, g⟩ := obj 2 (by omega) w2
    have hp' := hp (by omega)
    simp (disch := omega) only [iz_lit, iz_neg, iz_add, iz_sub, iz_mul, iz_lt, iz_le, iz_eq, iz_clamp, jmax_iz, jmin_iz, jabs_iz, iz_div, jrem_iz, nz_iz, chk_iz, nm_eq, b2_some, Option.bind_some, b2i_iz, decide_eq_false_iff_not, x_in_iz, m_within_iz, x_isShelf_iz, m_isShelf_iz, x_isCell_iz, x_isMinute_iz, m_isMinute_iz, Decidable.not_not, not_true, not_false_eq_true, if_true, if_false, w2, q1, q2, Int.reduceEq]
    exact ⟨_, _, rfl, rfl, g⟩
  by_cases w3 : w = 3
  · obtain ⟨a, o, q1, q2, g⟩ := obj 3 (by omega) w3
    have hp' := hp (by omega)
    simp (disch := omega) only [iz_lit, iz_neg, iz_add, iz_sub, iz_mul, iz_lt, iz_le, iz_eq, iz_clamp, jmax_iz, jmin_iz, jabs_iz, iz_div, jrem_iz, nz_iz, chk_iz, nm_eq, b2_some, Option.bind_some, b2i_iz, decide_eq_false_iff_not, x_in_iz, m_within_iz, x_isShelf_iz, m_isShelf_iz, x_isCell_iz, x_isMinute_iz, m_isMinute_iz, Decidable.not_not, not_true, not_false_eq_true, if_true, if_false, w3, q1, q2, Int.reduceEq]
    exact ⟨_, _, rfl, rfl, g⟩
  by_cases w4 : w = 4
  · subst w4
    simp (disch := omega) only [iz_lit, iz_neg, iz_add, iz_sub, iz_mul, iz_lt, iz_le, iz_eq, iz_clamp, jmax_iz, jmin_iz, jabs_iz, iz_div, jrem_iz, nz_iz, chk_iz, nm_eq, b2_some, Option.bind_some, b2i_iz, decide_eq_false_iff_not, x_in_iz, m_within_iz, x_isShelf_iz, m_isShelf_iz, x_isCell_iz, x_isMinute_iz, m_isMinute_iz, Decidable.not_not, not_true, not_false_eq_true, if_true, if_false, Int.reduceEq, Int.reduceSub, Int.reduceToNat]
    exact ⟨_, _, rfl, rfl, gat 0 (by omega) rfl⟩
  by_cases w5 : w = 5
  · subst w5
    simp (disch := omega) only [iz_lit, iz_neg, iz_add, iz_sub, iz_mul, iz_lt, iz_le, iz_eq, iz_clamp, jmax_iz, jmin_iz, jabs_iz, iz_div, jrem_iz, nz_iz, chk_iz, nm_eq, b2_some, Option.bind_some, b2i_iz, decide_eq_false_iff_not, x_in_iz, m_within_iz, x_isShelf_iz, m_isShelf_iz, x_isCell_iz, x_isMinute_iz, m_isMinute_iz, Decidable.not_not, not_true, not_false_eq_true, if_true, if_false, Int.reduceEq, Int.reduceSub, Int.reduceToNat]
    exact ⟨_, _, rfl, rfl, gat 1 (by omega) rfl⟩
  by_cases w6 : w = 6
  · subst w6
    simp (disch := omega) only [iz_lit, iz_neg, iz_add, iz_sub, iz_mul, iz_lt, iz_le, iz_eq, iz_clamp, jmax_iz, jmin_iz, jabs_iz, iz_div, jrem_iz, nz_iz, chk_iz, nm_eq, b2_some, Option.bind_some, b2i_iz, decide_eq_false_iff_not, x_in_iz, m_within_iz, x_isShelf_iz, m_isShelf_iz, x_isCell_iz, x_isMinute_iz, m_isMinute_iz, Decidable.not_not, not_true, not_false_eq_true, if_true, if_false, Int.reduceEq, Int.reduceSub, Int.reduceToNat]
    exact ⟨_, _, rfl, rfl, gat 2 (by omega) rfl⟩
  have w7 : w = 7 := by omega
  · subst w7
    simp (disch := omega) only [iz_lit, iz_neg, iz_add, iz_sub, iz_mul, iz_lt, iz_le, iz_eq, iz_clamp, jmax_iz, jmin_iz, jabs_iz, iz_div, jrem_iz, nz_iz, chk_iz, nm_eq, b2_some, Option.bind_some, b2i_iz, decide_eq_false_iff_not, x_in_iz, m_within_iz, x_isShelf_iz, m_isShelf_iz, x_isCell_iz, x_isMinute_iz, m_isMinute_iz, Decidable.not_not, not_true, not_false_eq_true, if_true, if_false, Int.reduceEq, Int.reduceSub, Int.reduceToNat]
    exact ⟨_, _, rfl, rfl, gat 3 (by omega) rfl⟩
/-- the rest is kept -/
theorem R_only {X X' : XS} {M M' : MS} (h : R X M) (hP : RP X' M') (hx : onlyX X X') (hm : onlyM M M') : RC X' M' ∧ RT X' M' ∧ RL X' M' ∧ RA X' M' ∧ RI X' M' ∧ RK X' M' ∧ RB X' M' ∧ RS X' M' := by
  obtain ⟨h1, h2, h3, h4, h5, h6, h7, h8, h9⟩ := h
  obtain ⟨e, ea, er, eo⟩ := hx
  obtain ⟨m, n, ml⟩ := hm
  have m' : ∀ k, M'.1 k = M.1 k := fun k => by rw [m]
  have m0 : mi M 0 ≤ mi M' 0 := by rw [mi_cg (m' 0)]; omega
  refine ⟨?_, ?_, ?_, ?_, ?_, ?_, ?_, ?_⟩
  · exact h2.cg (e 7 (by decide) (by decide) (by decide) (by decide)) (e 8 (by decide) (by decide) (by decide) (by decide)) (by rw [er]) (fun a o q t => eo a o q (by omega)) m0 (m' 34) (m' 35) (n 36 (by decide) (by decide) (by decide) (by decide) (by decide))
  · exact h3.cg (e 10 (by decide) (by decide) (by decide) (by decide)) (by rw [ea]) (m' 6) (n 7 (by decide) (by decide) (by decide) (by decide) (by decide))
  · exact h4.cg (by rw [er]) (fun a o q t => eo a o q (by omega)) (m' 8) (m' 9) (n 10 (by decide) (by decide) (by decide) (by decide) (by decide)) (n 11 (by decide) (by decide) (by decide) (by decide) (by decide)) (n 12 (by decide) (by decide) (by decide) (by decide) (by decide)) (n 13 (by decide) (by decide) (by decide) (by decide) (by decide))
  · exact h5.cg (e 29 (by decide) (by decide) (by decide) (by decide)) (e 30 (by decide) (by decide) (by decide) (by decide)) (e 31 (by decide) (by decide) (by decide) (by decide)) (e 32 (by decide) (by decide) (by decide) (by decide)) (e 33 (by decide) (by decide) (by decide) (by decide)) (e 34 (by decide) (by decide) (by decide) (by decide)) m0 (m' 24) (m' 25) (n 27 (by decide) (by decide) (by decide) (by decide) (by decide))
  · exact h6.cg (e 35 (by decide) (by decide) (by decide) (by decide)) (e 37 (by decide) (by decide) (by decide) (by decide)) (e 38 (by decide) (by decide) (by decide) (by decide)) (e 39 (by decide) (by decide) (by decide) (by decide)) (e 40 (by decide) (by decide) (by decide) (by decide)) (e 41 (by decide) (by decide) (by decide) (by decide)) (e 42 (by decide) (by decide) (by decide) (by decide)) (e 43 (by decide) (by decide) (by decide) (by decide)) (by rw [ea]) m0 (m' 28) (m' 29) (m' 30) (m' 31) (n 32 (by decide) (by decide) (by decide) (by decide) (by decide)) (n 33 (by decide) (by decide) (by decide) (by decide) (by decide))
  · exact h7.cg (e 44 (by decide) (by decide) (by decide) (by decide)) (by rw [ea]) (m' 39) (n 40 (by decide) (by decide) (by decide) (by decide) (by decide))
  · exact h8.cg (e 47 (by decide) (by decide) (by decide) (by decide)) (by rw [er]) (fun a o q t => eo a o q (by omega)) (m' 37) (n 38 (by decide) (by decide) (by decide) (by decide) (by decide))
  · exact h9.cg (by rw [er]) (by rw [er]) (fun a o q t => eo a o q (by omega)) (m' 37) (n 41 (by decide) (by decide) (by decide) (by decide) (by decide)) (n 42 (by decide) (by decide) (by decide) (by decide) (by decide)) ml
