/-! PLAIN LAW: posts made, the image, bodies. Own text. -/
set_option maxRecDepth 100000
/-- what an operation that makes objects owes -/
def sameP (x : (Int32 → XS → Prop) → Prop) (m : Option (Int32 × MS)) : Prop := ∃ v M', m = some (v, M') ∧ x (fun v' X' => v' = v ∧ R X' M')
theorem bindP_eq {α : Type} {x : Option α} {v : α} {f : α → Prop} (h : x = some v) (k : f v) : bindP x f := ⟨v, h, k⟩
theorem bindP_some {α : Type} (v : α) (f : α → Prop) : bindP (some v) f ↔ f v := ⟨fun ⟨w, h, k⟩ => by cases h; exact k, fun k => ⟨v, rfl, k⟩⟩
theorem nmP_eq {α : Type} (x : α) (f : α → Prop) : nmP x f ↔ f x := Iff.rfl
theorem xO_new {X : XS} {q : Nat} (h : X.2.2.2 q = none) (x : XO) {a : Nat} {o : XO} (ho : X.2.2.2 a = some o) : (xO X q x).2.2.2 a = some o := by
  rw [xO23, if_neg (fun e => by subst e; rw [h] at ho; cases ho), ho]
theorem R_newPost {X X' : XS} {M M' : MS} (h : R X M) {n : Nat} (hn : mi M 0 = n) (h9 : n < 9) {q : Nat} (hq : X.2.2.2 q = none) {o : XO} {x y v : Int} (o3 : o.1 = 3) (ox : o.2.1 0 = iz x) (oy : o.2.1 1 = iz y) (ov : o.2.1 2 = iz v) (od : o.2.1 3 = iz 60) (oz : o.2.1 4 = iz 0) (hx : 0 ≤ x ∧ x ≤ 15) (hy : 0 ≤ y ∧ y ≤ 15) (hv : 0 ≤ v ∧ v ≤ 9)
    (e1 : X'.1 1 = iz ((n : Int) + 1)) (e : ∀ k, k ≠ 1 → X'.1 k = X.1 k) (ea : X'.2.1 = X.2.1) (er0 : ∀ p, X'.2.2.1 0 p = if p = n then some q else X.2.2.1 0 p) (er : ∀ r, r ≠ 0 → X'.2.2.1 r = X.2.2.1 r) (eo : ∀ b, X'.2.2.2 b = if b = q then some o else X.2.2.2 b)
    (m0 : mi M' 0 = (n : Int) + 1) (m : ∀ k, k ≠ 0 → M'.1 k = M.1 k) (m1 : ∀ p, ma M' 1 p = if p = n then x else ma M 1 p) (m2 : ∀ p, ma M' 2 p = if p = n then y else ma M 2 p) (m3 : ∀ p, ma M' 3 p = if p = n then v else ma M 3 p) (m4 : ∀ p, ma M' 4 p = if p = n then 60 else ma M 4 p) (m26 : ∀ p, ma M' 26 p = if p = n then 0 else ma M 26 p) (mm : ∀ k, k ≠ 1 → k ≠ 2 → k ≠ 3 → k ≠ 4 → k ≠ 26 → M'.2.1 k = M.2.1 k) (ml : M'.2.2 = M.2.2) : R X' M' := by
  obtain ⟨h1, h2, h3, h4, h5, h6, h7, h8, h9'⟩ := h
  have ko : ∀ (a : Nat) (u : XO), X.2.2.2 a = some u → X'.2.2.2 a = some u := fun a u hu => by
    rw [eo, if_neg (fun z => by subst z; rw [hq] at hu; cases hu), hu]
  have lt : mi M 0 ≤ mi M' 0 := by omega
  refine ⟨?_, ?_, ?_, ?_, ?_, ?_, ?_, ?_, ?_⟩
  · obtain ⟨g1, g2, g3, g4, g5, g6, g7⟩ := h1
    have n5 : ∀ j, ma M' 5 j = ma M 5 j := ma_cg (mm 5 (by decide) (by decide) (by decide) (by decide) (by decide))
    have old : ∀ p a : Nat, (p : Int) < mi M 0 → X.2.2.1 0 p = some a → ∃ u, X.2.2.2 a = some u := fun p a hp ha => by
      obtain ⟨b, u, q1, q2, -⟩ := g4 p hp
      rw [ha] at q1; cases q1
      exact ⟨u, q2⟩
    unfold RP
    rw [m0, e1, e 2 (by decide), e 3 (by decide), e 4 (by decide), e 5 (by decide), n5, n5, n5, n5]
    refine ⟨⟨rfl, by omega⟩, g2, g3, fun p hp => ?_, fun p hp => ?_, fun p r hp hr c => ?_, fun p hp1 hp2 => ?_⟩
    · rw [er0, m1, m2, m3, m4, m26]
      by_cases c : p = n
      · simp only [c, if_true]
        exact ⟨q, o, rfl, by rw [eo, if_pos rfl], o3, ox, oy, ov, od, oz⟩
      · simp only [c, if_false]
        obtain ⟨a, u, q1, q2, q3⟩ := g4 p (by omega)
        exact ⟨a, u, q1, ko a u q2, q3⟩
    · rw [m1, m2, m3, m4]
      by_cases c : p = n
      · simp only [c, if_true]
        exact ⟨hx, hy, hv, by omega⟩
      · simp only [c, if_false]
        exact g5 p (by omega)
    · rw [er0, er0] at c
      by_cases cp : p = n
      · by_cases cr : r = n
        · omega
        · rw [if_pos cp, if_neg cr] at c
          obtain ⟨u, hu⟩ := old r q (by omega) c.symm
          rw [hq] at hu; cases hu
      · by_cases cr : r = n
        · rw [if_neg cp, if_pos cr] at c
          obtain ⟨u, hu⟩ := old p q (by omega) c
          rw [hq] at hu; cases hu
        · rw [if_neg cp, if_neg cr] at c
          exact g6 p r (by omega) (by omega) c
    · rw [m26, if_neg (by omega)]
      exact g7 p (by omega) hp2
  · exact h2.cg (e 7 (by decide)) (e 8 (by decide)) (er 6 (by decide)) (fun a u g _ => ko a u g) lt (m 34 (by decide)) (m 35 (by decide)) (mm 36 (by decide) (by decide) (by decide) (by decide) (by decide))
  · exact h3.cg (e 10 (by decide)) (by rw [ea]) (m 6 (by decide)) (mm 7 (by decide) (by decide) (by decide) (by decide) (by decide))
  · exact h4.cg (er 11 (by decide)) (fun a u g _ => ko a u g) (m 8 (by decide)) (m 9 (by decide)) (mm 10 (by decide) (by decide) (by decide) (by decide) (by decide)) (mm 11 (by decide) (by decide) (by decide) (by decide) (by decide)) (mm 12 (by decide) (by decide) (by decide) (by decide) (by decide)) (mm 13 (by decide) (by decide) (by decide) (by decide) (by decide))
  · exact h5.cg (e 29 (by decide)) (e 30 (by decide)) (e 31 (by decide)) (e 32 (by decide)) (e 33 (by decide)) (e 34 (by decide)) lt (m 24 (by decide)) (m 25 (by decide)) (mm 27 (by decide) (by decide) (by decide) (by decide) (by decide))
  · exact h6.cg (e 35 (by decide)) (e 37 (by decide)) (e 38 (by decide)) (e 39 (by decide)) (e 40 (by decide)) (e 41 (by decide)) (e 42 (by decide)) (e 43 (by decide)) (by rw [ea]) lt (m 28 (by decide)) (m 29 (by decide)) (m 30 (by decide)) (m 31 (by decide)) (mm 32 (by decide) (by decide) (by decide) (by decide) (by decide)) (mm 33 (by decide) (by decide) (by decide) (by decide) (by decide))
  · exact h7.cg (e 44 (by decide)) (by rw [ea]) (m 39 (by decide)) (mm 40 (by decide) (by decide) (by decide) (by decide) (by decide))
  · exact h8.cg (e 47 (by decide)) (er 46 (by decide)) (fun a u g _ => ko a u g) (m 37 (by decide)) (mm 38 (by decide) (by decide) (by decide) (by decide) (by decide))
  · exact h9'.cg (er 48 (by decide)) (er 46 (by decide)) (fun a u g _ => ko a u g) (m 37 (by decide)) (mm 41 (by decide) (by decide) (by decide) (by decide) (by decide)) (mm 42 (by decide) (by decide) (by decide) (by decide) (by decide)) ml
/-- the reference's new post -/
theorem m_newPost_iz {M : MS} {n : Nat} (hn : mi M 0 = n) (h9 : n < 9) {x y v : Int} (hx : 0 ≤ x ∧ x ≤ 15) (hy : 0 ≤ y ∧ y ≤ 15) (hv : 0 ≤ v ∧ v ≤ 9) : ∃ M', m_newPost M (iz x) (iz y) (iz v) = some (iz n, M') ∧ mi M' 0 = (n : Int) + 1 ∧ (∀ k, k ≠ 0 → M'.1 k = M.1 k) ∧ (∀ p, ma M' 1 p = if p = n then x else ma M 1 p) ∧ (∀ p, ma M' 2 p = if p = n then y else ma M 2 p) ∧ (∀ p, ma M' 3 p = if p = n then v else ma M 3 p) ∧ (∀ p, ma M' 4 p = if p = n then 60 else ma M 4 p) ∧ (∀ p, ma M' 26 p = if p = n then 0 else ma M 26 p) ∧ (∀ k, k ≠ 1 → k ≠ 2 → k ≠ 3 → k ≠ 4 → k ≠ 26 → M'.2.1 k = M.2.1 k) ∧ M'.2.2 = M.2.2 := by
  have h0 : M.1 0 = iz n := by rw [mi_eq, hn]
  unfold m_newPost
  simp (disch := omega) only [iz_lit, iz_neg, iz_add, iz_sub, iz_mul, iz_lt, iz_le, iz_eq, iz_clamp, jmax_iz, jmin_iz, jabs_iz, iz_div, jrem_iz, nz_iz, chk_iz, nm_eq, b2_some, Option.bind_some, b2i_iz, decide_eq_false_iff_not, x_in_iz, m_within_iz, x_isShelf_iz, m_isShelf_iz, x_isCell_iz, x_isMinute_iz, m_isMinute_iz, Decidable.not_not, not_true, not_false_eq_true, if_true, if_false, sA1, h0, Int.toNat_natCast]
  refine ⟨_, rfl, ?_, fun k hk => ?_, fun p => ?_, fun p => ?_, fun p => ?_, fun p => ?_, fun p => ?_, fun k k1 k2 k3 k4 k5 => ?_, rfl⟩
  · show (iz ((n : Int) + 1)).toInt = _
    rw [iz_toInt (by omega)]
  · simp only [xI1, xI2, xA1, xA21, xA22, xR1, xR21, xR22, xR23, xO1, xO21, xO22, xO23, sI1, sI2, sA1, sA21, sA22, sL1, sL21, sL22, oI1, oI21, oI22, hk, if_false]
  · simp only [ma_sI]
    repeat rw [ma_sA _ _ _ (by omega)]
    simp
  · simp only [ma_sI]
    repeat rw [ma_sA _ _ _ (by omega)]
    simp
  · simp only [ma_sI]
    repeat rw [ma_sA _ _ _ (by omega)]
    simp
  · simp only [ma_sI]
    repeat rw [ma_sA _ _ _ (by omega)]
    simp
  · simp only [ma_sI]
    repeat rw [ma_sA _ _ _ (by omega)]
    simp
  · funext i
    simp only [xI1, xI2, xA1, xA21, xA22, xR1, xR21, xR22, xR23, xO1, xO21, xO22, xO23, sI1, sI2, sA1, sA21, sA22, sL1, sL21, sL22, oI1, oI21, oI22, k1, k2, k3, k4, k5, if_false]
theorem addPost_iz {X : XS} {M : MS} (h : R X M) {n : Nat} (hn : mi M 0 = n) (h9 : n < 9) {x y : Int} (hx : 0 ≤ x ∧ x ≤ 15) (hy : 0 ≤ y ∧ y ≤ 15) (m : Nat) (Q : Option Nat → XS → Prop)
    (K : ∀ q, X.2.2.2 q = none → Q (some q) (xI (xR (xO X q (mkO 3 [iz x, iz y, 1, 60] [])) 0 n (some q)) 1 (iz ((n : Int) + 1)))) : x_addPost Q (m + 1) X (iz x) (iz y) := by
  have h0 : X.1 1 = iz n := by rw [h.1.1.1, hn]
  unfold x_addPost
  refine ⟨m, rfl, fun q hq => ?_⟩
  unfold nmP
  rw [h0]
  refine ⟨vp_iz (by omega), bindP_eq (getO_eq (xO_at _ _ _) rfl) ?_⟩
  rw [iz_clampN (by omega)]
  have e1 : (xR (xO X q (mkO 3 [iz x, iz y, 1, 60] [])) 0 n (some q)).1 1 + 1 = iz ((n : Int) + 1) := by
    show X.1 1 + 1 = _
    rw [h0, show (1 : Int32) = iz 1 from rfl, iz_add]
  dsimp only
  rw [e1]
  have e2 : (xI (xR (xO X q (mkO 3 [iz x, iz y, 1, 60] [])) 0 n (some q)) 1 (iz ((n : Int) + 1))).1 1 - 1 = iz n := by
    show iz ((n : Int) + 1) - 1 = _
    rw [show (1 : Int32) = iz 1 from rfl, iz_sub, show (n : Int) + 1 - 1 = n by omega]
  rw [e2]
  refine ⟨vp_iz (by omega), bindP_eq ?_ (K q hq)⟩
  rw [iz_clampN (by omega)]
  show (xR (xO X q (mkO 3 [iz x, iz y, 1, 60] [])) 0 n (some q)).2.2.1 0 n = some q
  rw [xR22, if_pos rfl, if_pos rfl]
theorem law_post {X : XS} {M : MS} (h : R X M) (p : Int32) : sameP (fun Q => x_post Q 1000 X p) (m_post M p) := by
  obtain ⟨z, hz, rfl⟩ := izE p
  have hR := h
  have n := h.1.1.2
  have h0 := h.1.1.1
  have d1 : 0 ≤ z → 0 ≤ z / 100 ∧ z / 100 ≤ 2147483647 := by omega
  have d2 : 0 ≤ z % 100 ∧ z % 100 ≤ 99 := by omega
  by_cases c : z < 0
  · refine ⟨iz (-1), M, by unfold m_post; simp (disch := omega) only [iz_lit, iz_neg, iz_add, iz_sub, iz_mul, iz_lt, iz_le, iz_eq, iz_clamp, jmax_iz, jmin_iz, jabs_iz, iz_div, jrem_iz, nz_iz, chk_iz, nm_eq, b2_some, Option.bind_some, b2i_iz, decide_eq_false_iff_not, x_in_iz, m_within_iz, x_isShelf_iz, m_isShelf_iz, x_isCell_iz, x_isMinute_iz, m_isMinute_iz, Decidable.not_not, not_true, not_false_eq_true, if_true, if_false, c], ?_⟩
    show x_post _ 1000 X (iz z)
    unfold x_post
    simp (disch := omega) only [iz_lit, iz_neg, iz_add, iz_sub, iz_mul, iz_lt, iz_le, iz_eq, iz_clamp, jmax_iz, jmin_iz, jabs_iz, iz_div, jrem_iz, nz_iz, chk_iz, nm_eq, b2_some, Option.bind_some, b2i_iz, decide_eq_false_iff_not, x_in_iz, m_within_iz, x_isShelf_iz, m_isShelf_iz, x_isCell_iz, x_isMinute_iz, m_isMinute_iz, Decidable.not_not, not_true, not_false_eq_true, if_true, if_false, c]
    exact ⟨trivial, hR⟩
  have d3 := d1 (by omega)
  by_cases c1 : ¬ (0 ≤ z / 100 ∧ z / 100 ≤ 15)
  · refine ⟨iz (-1), M, by unfold m_post; simp (disch := omega) only [iz_lit, iz_neg, iz_add, iz_sub, iz_mul, iz_lt, iz_le, iz_eq, iz_clamp, jmax_iz, jmin_iz, jabs_iz, iz_div, jrem_iz, nz_iz, chk_iz, nm_eq, b2_some, Option.bind_some, b2i_iz, decide_eq_false_iff_not, x_in_iz, m_within_iz, x_isShelf_iz, m_isShelf_iz, x_isCell_iz, x_isMinute_iz, m_isMinute_iz, Decidable.not_not, not_true, not_false_eq_true, if_true, if_false, c, show 15 < z / 100 by omega], ?_⟩
    show x_post _ 1000 X (iz z)
    unfold x_post
    simp (disch := omega) only [iz_lit, iz_neg, iz_add, iz_sub, iz_mul, iz_lt, iz_le, iz_eq, iz_clamp, jmax_iz, jmin_iz, jabs_iz, iz_div, jrem_iz, nz_iz, chk_iz, nm_eq, b2_some, Option.bind_some, b2i_iz, decide_eq_false_iff_not, x_in_iz, m_within_iz, x_isShelf_iz, m_isShelf_iz, x_isCell_iz, x_isMinute_iz, m_isMinute_iz, Decidable.not_not, not_true, not_false_eq_true, if_true, if_false, bindP_some, c, c1]
    exact ⟨trivial, hR⟩
  replace c1 := Decidable.not_not.mp c1
  by_cases c2 : ¬ (0 ≤ z % 100 ∧ z % 100 ≤ 15)
  · refine ⟨iz (-1), M, by unfold m_post; simp (disch := omega) only [iz_lit, iz_neg, iz_add, iz_sub, iz_mul, iz_lt, iz_le, iz_eq, iz_clamp, jmax_iz, jmin_iz, jabs_iz, iz_div, jrem_iz, nz_iz, chk_iz, nm_eq, b2_some, Option.bind_some, b2i_iz, decide_eq_false_iff_not, x_in_iz, m_within_iz, x_isShelf_iz, m_isShelf_iz, x_isCell_iz, x_isMinute_iz, m_isMinute_iz, Decidable.not_not, not_true, not_false_eq_true, if_true, if_false, c, show ¬ 15 < z / 100 by omega, show ¬ z % 100 ≤ 15 by omega], ?_⟩
    show x_post _ 1000 X (iz z)
    unfold x_post
    simp (disch := omega) only [iz_lit, iz_neg, iz_add, iz_sub, iz_mul, iz_lt, iz_le, iz_eq, iz_clamp, jmax_iz, jmin_iz, jabs_iz, iz_div, jrem_iz, nz_iz, chk_iz, nm_eq, b2_some, Option.bind_some, b2i_iz, decide_eq_false_iff_not, x_in_iz, m_within_iz, x_isShelf_iz, m_isShelf_iz, x_isCell_iz, x_isMinute_iz, m_isMinute_iz, Decidable.not_not, not_true, not_false_eq_true, if_true, if_false, bindP_some, c, c1, c2, and_self]
    exact ⟨trivial, hR⟩
  replace c2 := Decidable.not_not.mp c2
  by_cases c3 : mi M 0 = 9
  · refine ⟨iz (-3), M, by unfold m_post; simp (disch := omega) only [iz_lit, iz_neg, iz_add, iz_sub, iz_mul, iz_lt, iz_le, iz_eq, iz_clamp, jmax_iz, jmin_iz, jabs_iz, iz_div, jrem_iz, nz_iz, chk_iz, nm_eq, b2_some, Option.bind_some, b2i_iz, decide_eq_false_iff_not, x_in_iz, m_within_iz, x_isShelf_iz, m_isShelf_iz, x_isCell_iz, x_isMinute_iz, m_isMinute_iz, Decidable.not_not, not_true, not_false_eq_true, if_true, if_false, mi_eq M 0, c, show ¬ 15 < z / 100 by omega, show z % 100 ≤ 15 by omega, c3], ?_⟩
    show x_post _ 1000 X (iz z)
    unfold x_post
    simp (disch := omega) only [iz_lit, iz_neg, iz_add, iz_sub, iz_mul, iz_lt, iz_le, iz_eq, iz_clamp, jmax_iz, jmin_iz, jabs_iz, iz_div, jrem_iz, nz_iz, chk_iz, nm_eq, b2_some, Option.bind_some, b2i_iz, decide_eq_false_iff_not, x_in_iz, m_within_iz, x_isShelf_iz, m_isShelf_iz, x_isCell_iz, x_isMinute_iz, m_isMinute_iz, Decidable.not_not, not_true, not_false_eq_true, if_true, if_false, bindP_some, c, c1, c2, and_self, h0, c3]
    exact ⟨trivial, hR⟩
  obtain ⟨k, hk⟩ : ∃ k : Nat, mi M 0 = k := ⟨(mi M 0).toNat, by omega⟩
  obtain ⟨M', g, gm⟩ := m_newPost_iz hk (by omega) (x := z % 100) (y := z / 100) (v := 1) (by omega) (by omega) (by omega)
  refine ⟨iz k, M', ?_, ?_⟩
  · unfold m_post
    simp (disch := omega) only [iz_lit, iz_neg, iz_add, iz_sub, iz_mul, iz_lt, iz_le, iz_eq, iz_clamp, jmax_iz, jmin_iz, jabs_iz, iz_div, jrem_iz, nz_iz, chk_iz, nm_eq, b2_some, Option.bind_some, b2i_iz, decide_eq_false_iff_not, x_in_iz, m_within_iz, x_isShelf_iz, m_isShelf_iz, x_isCell_iz, x_isMinute_iz, m_isMinute_iz, Decidable.not_not, not_true, not_false_eq_true, if_true, if_false, mi_eq M 0, c, show ¬ 15 < z / 100 by omega, show z % 100 ≤ 15 by omega, c3, g]
  show x_post _ 1000 X (iz z)
  unfold x_post
  simp (disch := omega) only [iz_lit, iz_neg, iz_add, iz_sub, iz_mul, iz_lt, iz_le, iz_eq, iz_clamp, jmax_iz, jmin_iz, jabs_iz, iz_div, jrem_iz, nz_iz, chk_iz, nm_eq, b2_some, Option.bind_some, b2i_iz, decide_eq_false_iff_not, x_in_iz, m_within_iz, x_isShelf_iz, m_isShelf_iz, x_isCell_iz, x_isMinute_iz, m_isMinute_iz, Decidable.not_not, not_true, not_false_eq_true, if_true, if_false, bindP_some, c, c1, c2, and_self, h0, c3]
  refine ⟨1, 999, rfl, addPost_iz h hk (by omega) (by omega) (by omega) 0 _ fun q hq => ⟨?_, ?_⟩⟩
  · show iz ((k : Int) + 1) - iz 1 = _
    rw [iz_sub, show (k : Int) + 1 - 1 = k by omega]
  · obtain ⟨g0, g1, g2, g3, g4, g5, g6, g7, g8⟩ := gm
    refine R_newPost h hk (by omega) hq (o := mkO 3 [iz (z % 100), iz (z / 100), 1, 60] []) (x := z % 100) (y := z / 100) (v := 1) rfl rfl rfl rfl rfl rfl (by omega) (by omega) (by omega) rfl (fun j hj => ?_) rfl (fun j => ?_) (fun r hr => ?_) (fun b => rfl) g0 g1 g2 g3 g4 g5 g6 g7 g8
    · rw [xI1, if_neg hj]; rfl
    · show (xR (xO X q (mkO 3 [iz (z % 100), iz (z / 100), 1, 60] [])) 0 k (some q)).2.2.1 0 j = _
      rw [xR22, if_pos rfl]; rfl
    · funext j
      show (xR (xO X q (mkO 3 [iz (z % 100), iz (z / 100), 1, 60] [])) 0 k (some q)).2.2.1 r j = _
      rw [xR22, if_neg hr]; rfl
