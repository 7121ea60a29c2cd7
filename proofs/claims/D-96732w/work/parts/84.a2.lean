/-! PLAIN LAW: posts, distances, in deed. Own text. -/
set_option maxRecDepth 100000
def mx (M : MS) (p : Int) : Int := if p = -1 then ma M 5 0 else ma M 1 p.toNat
def my (M : MS) (p : Int) : Int := if p = -1 then ma M 5 1 else ma M 2 p.toNat
def dst (M : MS) (p q : Int) : Int := (((mx M p - mx M q).natAbs : Int) + (my M p - my M q).natAbs) * ma M 5 2
theorem dst_comm (M : MS) (p q : Int) : dst M p q = dst M q p := by
  unfold dst
  rw [show (mx M p - mx M q).natAbs = (mx M q - mx M p).natAbs by omega, show (my M p - my M q).natAbs = (my M q - my M p).natAbs by omega]
theorem dst_self (M : MS) (p : Int) : dst M p p = 0 := by
  unfold dst
  rw [show mx M p - mx M p = 0 by omega, show my M p - my M p = 0 by omega]
  simp
theorem mx_R {X : XS} {M : MS} (h : RP X M) {p : Int} (hp : -1 ≤ p ∧ p < mi M 0) : 0 ≤ mx M p ∧ mx M p ≤ 15 := by
  unfold mx
  by_cases c : p = -1
  · rw [if_pos c]; exact h.2.2.1.1
  · rw [if_neg c]; exact (h.2.2.2.2.1 p.toNat (by omega)).1
theorem my_R {X : XS} {M : MS} (h : RP X M) {p : Int} (hp : -1 ≤ p ∧ p < mi M 0) : 0 ≤ my M p ∧ my M p ≤ 15 := by
  unfold my
  by_cases c : p = -1
  · rw [if_pos c]; exact h.2.2.1.2.1
  · rw [if_neg c]; exact (h.2.2.2.2.1 p.toNat (by omega)).2.1
theorem dst_R {X : XS} {M : MS} (h : RP X M) {p q : Int} (hp : -1 ≤ p ∧ p < mi M 0) (hq : -1 ≤ q ∧ q < mi M 0) : 0 ≤ dst M p q ∧ dst M p q ≤ 270 := by
  unfold dst
  have a := mx_R h hp
  have b := mx_R h hq
  have c := my_R h hp
  have d := my_R h hq
  have e := h.2.2.1.2.2.1
  generalize hs : (((mx M p - mx M q).natAbs : Int) + (my M p - my M q).natAbs) = s
  have s1 : 0 ≤ s ∧ s ≤ 30 := by omega
  refine ⟨Int.mul_nonneg s1.1 (by omega), ?_⟩
  exact Int.le_trans (Int.mul_le_mul s1.2 e.2 (by omega) (by omega)) (by decide)
theorem getP {X : XS} {M : MS} (h : RP X M) {p : Int} (hp : 0 ≤ p ∧ p < mi M 0) : ∃ (a : Nat) (o : XO), X.2.2.1 0 p.toNat = some a ∧ getO X a 3 = some o ∧ o.1 = 3 ∧ o.2.1 0 = iz (mx M p) ∧ o.2.1 1 = iz (my M p) ∧ o.2.1 2 = iz (ma M 3 p.toNat) ∧ o.2.1 3 = iz (ma M 4 p.toNat) ∧ o.2.1 4 = iz (ma M 26 p.toNat) := by
  obtain ⟨a, o, q1, q2, q3, q4, q5, q6⟩ := h.2.2.2.1 p.toNat (by omega)
  refine ⟨a, o, q1, getO_eq q2 q3, q3, ?_, ?_, q6⟩
  · unfold mx
    rw [if_neg (by omega)]; exact q4
  · unfold my
    rw [if_neg (by omega)]; exact q5
theorem x_between_iz {X : XS} {M : MS} (h : RP X M) {p q : Int} (hp : 0 ≤ p ∧ p < mi M 0) (hq : 0 ≤ q ∧ q < mi M 0) : x_between X (iz p) (iz q) = some (iz (dst M p q)) := by
  obtain ⟨a, o, a1, a2, a3, a4, a5, -⟩ := getP h hp
  obtain ⟨b, u, b1, b2, b3, b4, b5, -⟩ := getP h hq
  have n := h.1.2
  have r1 := mx_R h (p := p) (by omega)
  have r2 := mx_R h (p := q) (by omega)
  have r3 := my_R h (p := p) (by omega)
  have r4 := my_R h (p := q) (by omega)
  unfold x_between p_fromPost p_farFrom
  simp (disch := omega) only [iz_lit, iz_neg, iz_add, iz_sub, iz_mul, iz_lt, iz_le, iz_eq, iz_clamp, jmax_iz, jmin_iz, jabs_iz, iz_div, jrem_iz, nz_iz, chk_iz, nm_eq, b2_some, Option.bind_some, b2i_iz, decide_eq_false_iff_not, x_in_iz, m_within_iz, x_isShelf_iz, m_isShelf_iz, x_isCell_iz, x_isMinute_iz, m_isMinute_iz, Decidable.not_not, not_true, not_false_eq_true, if_true, if_false, a1, b1, a2, b2, a4, a5, b4, b5, h.2.1.2.2.1]
  unfold dst
  rw [Int.mul_comm]
theorem x_fromGate_iz {X : XS} {M : MS} (h : RP X M) {p : Int} (hp : 0 ≤ p ∧ p < mi M 0) : x_fromGate X (iz p) = some (iz (dst M p (-1))) := by
  obtain ⟨a, o, a1, a2, a3, a4, a5, -⟩ := getP h hp
  have n := h.1.2
  have r1 := mx_R h (p := p) (by omega)
  have r2 := mx_R h (p := -1) (by omega)
  have r3 := my_R h (p := p) (by omega)
  have r4 := my_R h (p := -1) (by omega)
  have g1 : X.1 2 = iz (mx M (-1)) := h.2.1.1
  have g2 : X.1 3 = iz (my M (-1)) := h.2.1.2.1
  unfold x_fromGate p_farFrom
  simp (disch := omega) only [iz_lit, iz_neg, iz_add, iz_sub, iz_mul, iz_lt, iz_le, iz_eq, iz_clamp, jmax_iz, jmin_iz, jabs_iz, iz_div, jrem_iz, nz_iz, chk_iz, nm_eq, b2_some, Option.bind_some, b2i_iz, decide_eq_false_iff_not, x_in_iz, m_within_iz, x_isShelf_iz, m_isShelf_iz, x_isCell_iz, x_isMinute_iz, m_isMinute_iz, Decidable.not_not, not_true, not_false_eq_true, if_true, if_false, a1, a2, a4, a5, g1, g2, h.2.1.2.2.1]
  unfold dst
  rw [Int.mul_comm]
theorem m_xOf_iz {X : XS} {M : MS} (h : RP X M) {p : Int} (hp : -1 ≤ p ∧ p < mi M 0) : m_xOf M (iz p) = some (iz (mx M p)) := by
  have n := h.1.2
  unfold m_xOf mx
  by_cases c : p = -1
  · subst c
    rw [if_pos (show iz (-1) = -1 from rfl), if_pos rfl, ma_eq]
  · simp (disch := omega) only [iz_lit, iz_neg, iz_add, iz_sub, iz_mul, iz_lt, iz_le, iz_eq, iz_clamp, jmax_iz, jmin_iz, jabs_iz, iz_div, jrem_iz, nz_iz, chk_iz, nm_eq, b2_some, Option.bind_some, b2i_iz, decide_eq_false_iff_not, x_in_iz, m_within_iz, x_isShelf_iz, m_isShelf_iz, x_isCell_iz, x_isMinute_iz, m_isMinute_iz, Decidable.not_not, not_true, not_false_eq_true, if_true, if_false, c, ma_eq M 1]
theorem m_yOf_iz {X : XS} {M : MS} (h : RP X M) {p : Int} (hp : -1 ≤ p ∧ p < mi M 0) : m_yOf M (iz p) = some (iz (my M p)) := by
  have n := h.1.2
  unfold m_yOf my
  by_cases c : p = -1
  · subst c
    rw [if_pos (show iz (-1) = -1 from rfl), if_pos rfl, ma_eq]
  · simp (disch := omega) only [iz_lit, iz_neg, iz_add, iz_sub, iz_mul, iz_lt, iz_le, iz_eq, iz_clamp, jmax_iz, jmin_iz, jabs_iz, iz_div, jrem_iz, nz_iz, chk_iz, nm_eq, b2_some, Option.bind_some, b2i_iz, decide_eq_false_iff_not, x_in_iz, m_within_iz, x_isShelf_iz, m_isShelf_iz, x_isCell_iz, x_isMinute_iz, m_isMinute_iz, Decidable.not_not, not_true, not_false_eq_true, if_true, if_false, c, ma_eq M 2]
theorem m_minutes_iz {X : XS} {M : MS} (h : RP X M) {p q : Int} (hp : -1 ≤ p ∧ p < mi M 0) (hq : -1 ≤ q ∧ q < mi M 0) : m_minutes M (iz p) (iz q) = some (iz (dst M p q)) := by
  have r1 := mx_R h hp
  have r2 := mx_R h hq
  have r3 := my_R h hp
  have r4 := my_R h hq
  unfold m_minutes m_apart
  rw [m_xOf_iz h hp, m_xOf_iz h hq, m_yOf_iz h hp, m_yOf_iz h hq]
  simp (disch := omega) only [iz_lit, iz_neg, iz_add, iz_sub, iz_mul, iz_lt, iz_le, iz_eq, iz_clamp, jmax_iz, jmin_iz, jabs_iz, iz_div, jrem_iz, nz_iz, chk_iz, nm_eq, b2_some, Option.bind_some, b2i_iz, decide_eq_false_iff_not, x_in_iz, m_within_iz, x_isShelf_iz, m_isShelf_iz, x_isCell_iz, x_isMinute_iz, m_isMinute_iz, Decidable.not_not, not_true, not_false_eq_true, if_true, if_false, ma_eq M 5]
  rfl
theorem law_home {X : XS} {M : MS} (h : R X M) : same (x_home X) (m_home M) := by
  have hR := h
  obtain ⟨h1, h2, h3, h4, h5, h6, h7, h8, h9⟩ := h
  obtain ⟨⟨a1, a2, a3⟩, ⟨b1, b2, b3⟩, c1, c2, c3, c4⟩ := h5
  have n := h1.1.2
  have hd := dst_R h1 (p := mi M 24) (q := -1) (by omega) (by omega)
  have key : ∀ d : Int, d = dst M (mi M 24) (-1) → same (x_home_b19 X (iz d)) (m_home M) := by
    intro d hd2
    unfold x_home_b19 m_home
    rw [mi_eq M 24, show (-1 : Int32) = iz (-1) from rfl, m_minutes_iz h1 (by omega) (by omega), ← hd2]
    simp (disch := omega) only [iz_lit, iz_neg, iz_add, iz_sub, iz_mul, iz_lt, iz_le, iz_eq, iz_clamp, jmax_iz, jmin_iz, jabs_iz, iz_div, jrem_iz, nz_iz, chk_iz, nm_eq, b2_some, Option.bind_some, b2i_iz, decide_eq_false_iff_not, x_in_iz, m_within_iz, x_isShelf_iz, m_isShelf_iz, x_isCell_iz, x_isMinute_iz, m_isMinute_iz, Decidable.not_not, not_true, not_false_eq_true, if_true, if_false, b1, mi_eq M 25]
    by_cases q : mi M 25 + d ≤ 9999
    · rw [if_pos q, if_pos q]
      refine ⟨_, _, _, rfl, rfl, ?_⟩
      have e : (iz (mi M 25 + d)).toInt = mi M 25 + d := iz_toInt (by omega)
      refine ⟨h1.cg rfl rfl rfl rfl rfl rfl (fun _ _ q _ => q) rfl rfl rfl rfl rfl rfl rfl, h2.cg rfl rfl rfl (fun _ _ q _ => q) (Int.le_refl _) rfl rfl rfl, h3.cg rfl rfl rfl rfl, h4.cg rfl (fun _ _ q _ => q) rfl rfl rfl rfl rfl rfl, ?_, h6.cg rfl rfl rfl rfl rfl rfl rfl rfl rfl (Int.le_refl _) rfl rfl rfl rfl rfl rfl, h7.cg rfl rfl rfl rfl, h8.cg rfl rfl (fun _ _ q _ => q) rfl rfl, h9.cg rfl rfl (fun _ _ q _ => q) rfl rfl rfl rfl⟩
      refine ⟨⟨rfl, ?_, ?_⟩, ⟨?_, ?_, ?_⟩, ?_, c2, c3, c4⟩
      · show -1 ≤ (iz (-1)).toInt
        decide
      · show (iz (-1)).toInt < mi M 0
        rw [iz_toInt (by omega)]; omega
      · show iz (mi M 25 + d) = iz (iz (mi M 25 + d)).toInt
        rw [e]
      · show 0 ≤ (iz (mi M 25 + d)).toInt
        rw [e]; omega
      · show (iz (mi M 25 + d)).toInt ≤ 9999
        rw [e]; omega
      · show X.1 31 + iz d = M.2.1 27 0 + iz d
        rw [c1]
    · rw [if_neg q, if_neg q]
      exact ⟨_, _, _, rfl, rfl, hR⟩
  unfold x_home
  by_cases c : 0 ≤ mi M 24
  · rw [a1, x_fromGate_iz h1 (by omega)]
    simp (disch := omega) only [iz_lit, iz_neg, iz_add, iz_sub, iz_mul, iz_lt, iz_le, iz_eq, iz_clamp, jmax_iz, jmin_iz, jabs_iz, iz_div, jrem_iz, nz_iz, chk_iz, nm_eq, b2_some, Option.bind_some, b2i_iz, decide_eq_false_iff_not, x_in_iz, m_within_iz, x_isShelf_iz, m_isShelf_iz, x_isCell_iz, x_isMinute_iz, m_isMinute_iz, Decidable.not_not, not_true, not_false_eq_true, if_true, if_false, c]
    exact key _ rfl
  · rw [a1]
    simp (disch := omega) only [iz_lit, iz_neg, iz_add, iz_sub, iz_mul, iz_lt, iz_le, iz_eq, iz_clamp, jmax_iz, jmin_iz, jabs_iz, iz_div, jrem_iz, nz_iz, chk_iz, nm_eq, b2_some, Option.bind_some, b2i_iz, decide_eq_false_iff_not, x_in_iz, m_within_iz, x_isShelf_iz, m_isShelf_iz, x_isCell_iz, x_isMinute_iz, m_isMinute_iz, Decidable.not_not, not_true, not_false_eq_true, if_true, if_false, c]
    refine key 0 ?_
    rw [show mi M 24 = -1 by omega, dst_self]
theorem tag3 {X : XS} {a : Nat} {o : XO} (h : X.2.2.2 a = some o) (h3 : o.1 = 3) : ∀ u, X.2.2.2 a = some u → u.1 = 3 := fun u hu => by rw [h] at hu; cases hu; exact h3
theorem RP_dents {X X' : XS} {M M' : MS} (h : RP X M) {p a : Nat} {o : XO} (hp : (p : Int) < mi M 0) (ha : X.2.2.1 0 p = some a) (ho : X.2.2.2 a = some o) {v : Int} (e : ∀ k, k = 1 ∨ k = 2 ∨ k = 3 ∨ k = 4 ∨ k = 5 → X'.1 k = X.1 k) (er : X'.2.2.1 0 = X.2.2.1 0) (eo : ∀ b, X'.2.2.2 b = if b = a then some (oI o 4 (iz v)) else X.2.2.2 b) (m0 : M'.1 0 = M.1 0) (m : ∀ k, k = 1 ∨ k = 2 ∨ k = 3 ∨ k = 4 ∨ k = 5 → M'.2.1 k = M.2.1 k) (m26 : ∀ j, ma M' 26 j = if j = p then v else ma M 26 j) : RP X' M' := by
  obtain ⟨h1, h2, h3, h4, h5, h6, h7⟩ := h
  unfold RP
  simp only [e 1 (by simp), e 2 (by simp), e 3 (by simp), e 4 (by simp), e 5 (by simp), er, mi_cg m0, ma_cg (m 1 (by simp)), ma_cg (m 2 (by simp)), ma_cg (m 3 (by simp)), ma_cg (m 4 (by simp)), ma_cg (m 5 (by simp))]
  refine ⟨h1, h2, h3, fun q hq => ?_, h5, h6, fun q g1 g2 => ?_⟩
  · obtain ⟨b, u, q1, q2, q3, q4, q5, q6, q7, q8⟩ := h4 q hq
    by_cases c : q = p
    · subst c
      have e1 : b = a := Option.some.inj (q1.symm.trans ha)
      subst e1
      have e2 : u = o := Option.some.inj (q2.symm.trans ho)
      subst e2
      refine ⟨b, oI u 4 (iz v), q1, by rw [eo, if_pos rfl], q3, q4, q5, q6, q7, ?_⟩
      rw [m26, if_pos rfl]
      rfl
    · have hba : b ≠ a := fun z => c (h6 q p hq hp (by rw [q1, ha, z]))
      exact ⟨b, u, q1, by rw [eo, if_neg hba]; exact q2, q3, q4, q5, q6, q7, by rw [m26, if_neg c]; exact q8⟩
  · rw [m26, if_neg (by omega)]
    exact h7 q g1 g2
theorem law_walk {X : XS} {M : MS} (h : R X M) (p : Int32) : same (x_walk X p) (m_walk M p) := by
  obtain ⟨z, hz, rfl⟩ := izE p
  have hR := h
  obtain ⟨h1, h2, h3, h4, h5, h6, h7, h8, h9⟩ := h
  obtain ⟨⟨a1, a2, a3⟩, ⟨b1, b2, b3⟩, c1, c2, c3, c4⟩ := h5
  have n := h1.1.2
  unfold x_walk m_walk
  rw [x_isPost_iz h1.1.1 n hz, m_isPost_iz n hz]
  by_cases c : ¬ (0 ≤ z ∧ z < mi M 0)
  · simp (disch := omega) only [iz_lit, iz_neg, iz_add, iz_sub, iz_mul, iz_lt, iz_le, iz_eq, iz_clamp, jmax_iz, jmin_iz, jabs_iz, iz_div, jrem_iz, nz_iz, chk_iz, nm_eq, b2_some, Option.bind_some, b2i_iz, decide_eq_false_iff_not, x_in_iz, m_within_iz, x_isShelf_iz, m_isShelf_iz, x_isCell_iz, x_isMinute_iz, m_isMinute_iz, Decidable.not_not, not_true, not_false_eq_true, if_true, if_false, c]
    exact ⟨_, _, _, rfl, rfl, hR⟩
  replace c := Decidable.not_not.mp c
  have hd := dst_R h1 (p := mi M 24) (q := z) (by omega) (by omega)
  have s5 := h1.2.2.1.2.2.2
  obtain ⟨a, o, q1, q2, q3, -, -, -, -, q4⟩ := getP h1 c
  have q5 := (getO_some q2).1
  have key : ∀ d : Int, d = dst M (mi M 24) z → same (x_walk_b34 (iz z) X (iz d)) ((m_minutes M (M.1 24) (iz z)).bind fun v4 => if ((M.1 25) + v4) + (M.2.1 5 3) ≤ 9999 then nm (sI M 25 ((M.1 25) + (v4 + (M.2.1 5 3)))) fun T5 => nm (sI T5 24 (iz z)) fun T6 => chk 9 (iz z) (chk 9 (iz z) (nm (sA T6 26 (iz z).toNatClampNeg ((T6.2.1 26 (iz z).toNatClampNeg) + 1)) fun T8 => nm (sA T8 27 0 ((T8.2.1 27 0) + v4)) fun T10 => nm (sA T10 27 1 ((T10.2.1 27 1) + 1)) fun T11 => nm (sA T11 27 2 ((T11.2.1 27 2) + (T11.2.1 5 3))) fun T12 => some (T12.1 25, T12))) else some ((-5), M)) := by
    intro d hd2
    unfold x_walk_b34
    rw [mi_eq M 24, m_minutes_iz h1 (by omega) (by omega), ← hd2]
    have q2' : ∀ k v, getO (xI X k v) a 3 = some o := fun k v => q2
    simp (disch := omega) only [iz_lit, iz_neg, iz_add, iz_sub, iz_mul, iz_lt, iz_le, iz_eq, iz_clamp, jmax_iz, jmin_iz, jabs_iz, iz_div, jrem_iz, nz_iz, chk_iz, nm_eq, b2_some, Option.bind_some, b2i_iz, decide_eq_false_iff_not, x_in_iz, m_within_iz, x_isShelf_iz, m_isShelf_iz, x_isCell_iz, x_isMinute_iz, m_isMinute_iz, Decidable.not_not, not_true, not_false_eq_true, if_true, if_false, b1, mi_eq M 25, h1.2.1.2.2.2, ma_eq M 5 3]
    by_cases q : mi M 25 + d + ma M 5 3 ≤ 9999
    · rw [if_pos q, if_pos q]
      rw [show (xI (xI X 30 (iz (mi M 25 + (d + ma M 5 3)))) 29 (iz z)).2.2.1 0 z.toNat = some a from q1]
      simp only [Option.bind_some]
      rw [show getO (xI (xI X 30 (iz (mi M 25 + (d + ma M 5 3)))) 29 (iz z)) a 3 = some o from q2]
      simp only [Option.bind_some]
      refine ⟨_, _, _, rfl, rfl, ?_⟩
      have e : (iz (mi M 25 + (d + ma M 5 3))).toInt = mi M 25 + (d + ma M 5 3) := iz_toInt (by omega)
      have keep : ∀ {t : Nat} (b : Nat) (u : XO), X.2.2.2 b = some u → u.1 ≠ 3 → (if b = a then some (oI o 4 (o.2.1 4 + iz 1)) else X.2.2.2 b) = some u := fun {_} b u hu ht => by
        rw [if_neg (fun z => by subst z; exact ht (tag3 q5 q3 u hu)), hu]
      refine ⟨?_, h2.cg rfl rfl rfl (fun b u hu ht => keep (t := 0) b u hu (by omega)) (Int.le_refl _) rfl rfl rfl, h3.cg rfl rfl rfl rfl, h4.cg rfl (fun b u hu ht => keep (t := 0) b u hu (by omega)) rfl rfl rfl rfl rfl rfl, ?_, h6.cg rfl rfl rfl rfl rfl rfl rfl rfl rfl (Int.le_refl _) rfl rfl rfl rfl rfl rfl, h7.cg rfl rfl rfl rfl, h8.cg rfl rfl (fun b u hu ht => keep (t := 0) b u hu (by omega)) rfl rfl, h9.cg rfl rfl (fun b u hu ht => keep (t := 0) b u hu (by omega)) rfl rfl rfl rfl⟩
      · refine RP_dents h1 (p := z.toNat) (a := a) (o := o) (v := (iz (ma M 26 z.toNat + 1)).toInt) (by omega) q1 q5 ?_ rfl ?_ rfl ?_ ?_
        · rintro k (rfl | rfl | rfl | rfl | rfl) <;> rfl
        · intro b
          rw [iz_of]
          show (if b = a then some (oI o 4 (o.2.1 4 + iz 1)) else X.2.2.2 b) = _
          rw [q4, iz_add]
        · rintro k (rfl | rfl | rfl | rfl | rfl) <;> rfl
        · intro j
          by_cases hj : j = z.toNat
          · subst hj
            rw [if_pos rfl]
            unfold ma
            simp only [xI1, xI2, xA1, xA21, xA22, xR1, xR21, xR22, xR23, xO1, xO21, xO22, xO23, sI1, sI2, sA1, sA21, sA22, sL1, sL21, sL22, oI1, oI21, oI22, if_true, Nat.reduceEqDiff, if_false]
            rw [← iz_add, iz_of]
          · rw [if_neg hj]
            unfold ma
            simp only [xI1, xI2, xA1, xA21, xA22, xR1, xR21, xR22, xR23, xO1, xO21, xO22, xO23, sI1, sI2, sA1, sA21, sA22, sL1, sL21, sL22, oI1, oI21, oI22, if_true, Nat.reduceEqDiff, if_false, hj]
      · refine ⟨⟨?_, ?_, ?_⟩, ⟨?_, ?_, ?_⟩, ?_, ?_, ?_, ?_⟩
        · show iz z = iz (iz z).toInt
          rw [iz_toInt hz]
        · show -1 ≤ (iz z).toInt
          rw [iz_toInt hz]; omega
        · show (iz z).toInt < mi M 0
          rw [iz_toInt hz]; omega
        · show iz (mi M 25 + (d + ma M 5 3)) = iz (iz (mi M 25 + (d + ma M 5 3))).toInt
          rw [e]
        · show 0 ≤ (iz (mi M 25 + (d + ma M 5 3))).toInt
          rw [e]; omega
        · show (iz (mi M 25 + (d + ma M 5 3))).toInt ≤ 9999
          rw [e]; omega
        · show X.1 31 + iz d = M.2.1 27 0 + iz d
          rw [c1]
        · show X.1 32 + iz 1 = M.2.1 27 1 + iz 1
          rw [c2]
        · show X.1 33 + X.1 5 = M.2.1 27 2 + M.2.1 5 3
          rw [c3, h1.2.1.2.2.2, ma_eq M 5 3]
        · exact c4
    · rw [if_neg q, if_neg q]
      exact ⟨_, _, _, rfl, rfl, hR⟩
  simp (disch := omega) only [b2i_0, c, and_self, Option.bind_some, decide_true, reduceCtorEq, if_false]
  by_cases c0 : 0 ≤ mi M 24
  · rw [a1, x_between_iz h1 (by omega) c]
    rw [if_pos (by rw [show (0 : Int32) = iz 0 from rfl, iz_le (by omega)]; exact c0)]
    exact key _ rfl
  · rw [a1, x_fromGate_iz h1 c]
    rw [if_neg (by rw [show (0 : Int32) = iz 0 from rfl, iz_le (by omega)]; exact c0)]
    exact key _ (by rw [show mi M 24 = -1 by omega, dst_comm])
