/-! PLAIN LAW: a new row, back, mend. Own text. -/
set_option maxRecDepth 100000
theorem rowT_iz {k : Nat} (h : k ≤ 4) : rowT (iz k) = 23 + k := by
  rcases (show k = 0 ∨ k = 1 ∨ k = 2 ∨ k = 3 ∨ k = 4 by omega) with e | e | e | e | e <;> subst e <;> rfl
theorem rAt_new (k n j : Nat) : rAt (23 + k) (mkA (23 + k + 7) n) j = 0 := by
  unfold rAt mkA
  (repeat' split) <;> first | rfl | contradiction
theorem R_newRow {X : XS} {M M' : MS} (h : R X M) {s k n q b : Nat} (hs : s < 6) (k4 : k ≤ 4) (n60 : n ≤ 60) (hq : X.2.2.2 q = none) (hb : (xO X q (rawO (23 + k))).2.2.2 b = none) (m1 : M'.1 = M.1) (ma' : ∀ j, j ≠ 41 → j ≠ 42 → M'.2.1 j = M.2.1 j) (m41 : ∀ j, ma M' 41 j = if j = s then (k : Int) else ma M 41 j) (m42 : ∀ j, ma M' 42 j = if j = s then (n : Int) else ma M 42 j) (ml : ∀ j, M'.2.2 j = if 60 * s ≤ j ∧ j < 60 * s + 60 then 0 else M.2.2 j) : R (xR (newRowT X q b (23 + k) n) 48 s (some q)) M' := by
  obtain ⟨h1, h2, h3, h4, h5, h6, h7, h8, h9⟩ := h
  have bq : b ≠ q := fun e => by subst e; rw [xO_at] at hb; cases hb
  have hb2 : X.2.2.2 b = none := by rw [xO23, if_neg bq] at hb; exact hb
  have oa : ∀ c, (xR (newRowT X q b (23 + k) n) 48 s (some q)).2.2.2 c = if c = q then some (mkO (23 + k) [] [some b]) else if c = b then some (mkA (23 + k + 7) n) else X.2.2.2 c := fun c => by
    show (newRowT X q b (23 + k) n).2.2.2 c = _
    unfold newRowT
    rw [xO23]
    by_cases e : c = q
    · rw [if_pos e, if_pos e]
    · rw [if_neg e, if_neg e, xO23]
      by_cases e2 : c = b
      · rw [if_pos e2, if_pos e2]
      · rw [if_neg e2, if_neg e2, xO23, if_neg e]
  have ko : ∀ (c : Nat) (o : XO), X.2.2.2 c = some o → (xR (newRowT X q b (23 + k) n) 48 s (some q)).2.2.2 c = some o := fun c o hc => by
    rw [oa, if_neg (fun e => by subst e; rw [hq] at hc; cases hc), if_neg (fun e => by subst e; rw [hb2] at hc; cases hc), hc]
  have r48 : ∀ j, (xR (newRowT X q b (23 + k) n) 48 s (some q)).2.2.1 48 j = if j = s then some q else X.2.2.1 48 j := fun j => by rw [xR22, if_pos rfl]; rfl
  have rr : ∀ r, r ≠ 48 → (xR (newRowT X q b (23 + k) n) 48 s (some q)).2.2.1 r = X.2.2.1 r := fun r hr => by funext j; rw [xR22, if_neg hr]; rfl
  have mm : ∀ j, M'.1 j = M.1 j := fun j => by rw [m1]
  have m0 : mi M 0 ≤ mi M' 0 := by rw [mi_cg (mm 0)]; omega
  have row1 : rowZ (xR (newRowT X q b (23 + k) n) 48 s (some q)) q (23 + k) = some (b, mkA (23 + k + 7) n) := rowZ_mk (x := mkO (23 + k) [] [some b]) (by rw [oa, if_pos rfl]) rfl rfl (by rw [oa, if_neg bq, if_pos rfl]) rfl (fun j _ => by
    show fitE (23 + k) 0 = true
    unfold fitE
    (repeat' split) <;> decide)
  have nb : ∀ (a' t b' : Nat) (z' : XO), rowZ X a' t = some (b', z') → b' ≠ b := fun a' t b' z' g e => by
    obtain ⟨x', u1, u2, u3, u4, u5⟩ := rowZ_ex g
    subst e
    rw [hb2] at u4; cases u4
  refine ⟨?_, ?_, ?_, ?_, ?_, ?_, ?_, ?_, fun s' hs' => ?_, ?_⟩
  · exact h1.cg rfl rfl rfl rfl rfl (rr 0 (by decide)) (fun c o g _ => ko c o g) (mm 0) (ma' 1 (by decide) (by decide)) (ma' 2 (by decide) (by decide)) (ma' 3 (by decide) (by decide)) (ma' 4 (by decide) (by decide)) (ma' 5 (by decide) (by decide)) (ma' 26 (by decide) (by decide))
  · exact h2.cg rfl rfl (rr 6 (by decide)) (fun c o g _ => ko c o g) m0 (mm 34) (mm 35) (ma' 36 (by decide) (by decide))
  · exact h3.cg rfl rfl (mm 6) (ma' 7 (by decide) (by decide))
  · exact h4.cg (rr 11 (by decide)) (fun c o g _ => ko c o g) (mm 8) (mm 9) (ma' 10 (by decide) (by decide)) (ma' 11 (by decide) (by decide)) (ma' 12 (by decide) (by decide)) (ma' 13 (by decide) (by decide))
  · exact h5.cg rfl rfl rfl rfl rfl rfl m0 (mm 24) (mm 25) (ma' 27 (by decide) (by decide))
  · exact h6.cg rfl rfl rfl rfl rfl rfl rfl rfl rfl m0 (mm 28) (mm 29) (mm 30) (mm 31) (ma' 32 (by decide) (by decide)) (ma' 33 (by decide) (by decide))
  · exact h7.cg rfl rfl (mm 39) (ma' 40 (by decide) (by decide))
  · exact h8.cg rfl (rr 46 (by decide)) (fun c o g _ => ko c o g) (mm 37) (ma' 38 (by decide) (by decide))
  · by_cases c : s' = s
    · subst c
      refine Or.inr (Or.inr ⟨k, q, b, mkA (23 + k + 7) n, k4, by rw [m41, if_pos rfl], by rw [r48, if_pos rfl], row1, by rw [m42, if_pos rfl]; rfl, n60, fun j hj => ?_⟩)
      have hj' : j < n := hj
      rw [rAt_new, ml, if_pos (by omega)]
    · unfold shR
      rw [m41, m42, r48, rr 46 (by decide), mi_cg (mm 37), if_neg c, if_neg c, if_neg c]
      rcases h9.1 s' hs' with u | u | ⟨k', a', b', y', q1, q2, q3, q4, q5, q6, q7⟩
      · exact Or.inl u
      · exact Or.inr (Or.inl u)
      · refine Or.inr (Or.inr ⟨k', a', b', y', q1, q2, q3, rowZ.cg (fun c o g _ => ko c o g) (by omega) q4, q5, q6, fun j hj => ?_⟩)
        rw [ml, if_neg (by omega), q7 j hj]
  · intro s1 s2 k1 k2 a1 a2 b1 b2 z1 z2 g1 g2 g3 g4 g5 g6 g7 g8 g9 g10 g11
    rw [m41] at g4 g6
    rw [r48] at g8 g9
    have old : ∀ (s' k' a' b' : Nat) (z' : XO), s' < 6 → ma M 41 s' = k' → k' ≤ 4 → X.2.2.1 48 s' = some a' → rowZ (xR (newRowT X q b (23 + k) n) 48 s (some q)) a' (23 + k') = some (b', z') → rowZ X a' (23 + k') = some (b', z') := by
      intro s' k' a' b' z' u1 u2 u3 u4 u5
      obtain ⟨a0, b0, y0, q1, q2, -⟩ := (h9.1 s' u1).row u2 u3
      rw [u4] at q1; cases q1
      have := rowZ.cg (fun c o g _ => ko c o g) (by omega) q2
      rw [u5] at this
      cases this
      exact q2
    by_cases c1 : s1 = s
    · have c2 : s2 ≠ s := fun e => g3 (by rw [c1, e])
      rw [if_pos c1] at g4 g8
      rw [if_neg c2] at g6 g9
      have e1 : k1 = k := by omega
      subst e1
      cases g8
      rw [row1] at g10; cases g10
      exact fun e => nb _ _ _ _ (old s2 k2 a2 b2 z2 g2 g6 g7 g9 g11) e.symm
    · by_cases c2 : s2 = s
      · rw [if_neg c1] at g4 g8
        rw [if_pos c2] at g6 g9
        have e1 : k2 = k := by omega
        subst e1
        cases g9
        rw [row1] at g11; cases g11
        exact fun e => nb _ _ _ _ (old s1 k1 a1 b1 z1 g1 g4 g5 g8 g10) e
      · rw [if_neg c1] at g4 g8
        rw [if_neg c2] at g6 g9
        exact h9.2 s1 s2 k1 k2 a1 a2 b1 b2 z1 z2 g1 g2 g3 g4 g5 g6 g7 g8 g9 (old s1 k1 a1 b1 z1 g1 g4 g5 g8 g10) (old s2 k2 a2 b2 z2 g2 g6 g7 g9 g11)
theorem m_row_l (N : Nat) {s : Nat} (hs : s < 6) : ∀ (n i : Nat) (T : MS), i ≤ 60 → 60 - i < n → ∃ T' : MS, m_row_b48 N (iz s) n T (iz i) = some (1, T') ∧ T'.1 = T.1 ∧ T'.2.1 = T.2.1 ∧ ∀ j, T'.2.2 j = if 60 * s + i ≤ j ∧ j < 60 * s + 60 then 0 else T.2.2 j := by
  intro n
  induction n with
  | zero => intro i T h1 h2; omega
  | succ n ih =>
    intro i T h1 h2
    rw [m_row_b48]
    by_cases c : i = 60
    · subst c
      exact ⟨T, iteTE (by decide) rfl, rfl, rfl, fun j => by rw [if_neg (by omega)]⟩
    · have e1 : (60 * iz s) + iz i = iz ((60 * s + i : Nat) : Int) := by rw [show (60 : Int32) = iz 60 from rfl, iz_mul, iz_add]; congr 1
      obtain ⟨T', g1, g2, g3, g4⟩ := ih (i + 1) (sL T (60 * s + i) 0) (by omega) (by omega)
      refine ⟨T', iteFE (by rw [show (60 : Int32) = iz 60 from rfl, iz_le (by omega)]; omega) (chkE e1 (by omega) ?_), g2, g3, fun j => ?_⟩
      · rw [e1, iz_clampN (by omega), nm_eq, nm_eq, show (1 : Int32) = iz 1 from rfl, iz_add]
        exact g1
      · rw [g4 j, sL22]
        by_cases cj : j = 60 * s + i
        · rw [if_neg (by omega), if_pos cj, if_pos (by omega)]
        · rw [if_neg cj]
          by_cases ck : 60 * s + (i + 1) ≤ j ∧ j < 60 * s + 60
          · rw [if_pos ck, if_pos (by omega)]
          · rw [if_neg ck, if_neg (by omega)]
theorem law_row {X : XS} {M : MS} (h : R X M) {N : Nat} (hN : 100 ≤ N) (p w v : Int32) : sameP (fun Q => x_row Q 1000 X p w v) (m_row N M p w v) := by
  have hR := h
  obtain ⟨z, hz, rfl⟩ := izE p
  obtain ⟨k, hk, rfl⟩ := izE w
  obtain ⟨n, hn, rfl⟩ := izE v
  unfold sameP x_row m_row
  by_cases c : ¬ (0 ≤ z ∧ z ≤ 5)
  · exact ⟨_, _, bindE (shelfF hz c) (iteTE rfl rfl), bindP_eq (shelfF hz c) (iteT rfl ⟨rfl, hR⟩)⟩
  replace c := Decidable.not_not.mp c
  have w1 : x_in (iz k) 0 4 = some (decide (0 ≤ k ∧ k ≤ 4)) := by rw [show (0 : Int32) = iz 0 from rfl, show (4 : Int32) = iz 4 from rfl, x_in_iz (by omega)]
  have w2 : m_within (iz k) 0 4 = some (decide (0 ≤ k ∧ k ≤ 4)) := w1
  by_cases ck : ¬ (0 ≤ k ∧ k ≤ 4)
  · rw [decide_eq_false ck] at w1 w2
    exact ⟨_, _, bindE (shelfT c) (iteFE b2iT (bindE w2 (iteTE rfl rfl))), bindP_eq (shelfT c) (iteF b2iT (bindP_eq w1 (iteT rfl ⟨rfl, hR⟩)))⟩
  replace ck := Decidable.not_not.mp ck
  rw [decide_eq_true ck] at w1 w2
  have e60 : (iz n ≤ 60) ↔ n ≤ 60 := by rw [show (60 : Int32) = iz 60 from rfl, iz_le (by omega)]
  have e0 : (iz n < 0) ↔ n < 0 := by rw [show (0 : Int32) = iz 0 from rfl, iz_lt (by omega)]
  have e0' : (0 ≤ iz n) ↔ 0 ≤ n := by rw [show (0 : Int32) = iz 0 from rfl, iz_le (by omega)]
  by_cases c6 : ¬ n ≤ 60
  · exact ⟨_, _, bindE (shelfT c) (iteFE b2iT (bindE w2 (iteFE b2iT (iteFE (fun q => c6 (e60.mp q)) rfl)))), bindP_eq (shelfT c) (iteF b2iT (bindP_eq w1 (iteF b2iT (iteF (fun q => c6 (e60.mp q)) ⟨rfl, hR⟩))))⟩
  replace c6 := Decidable.not_not.mp c6
  obtain ⟨k, rfl⟩ : ∃ k' : Nat, k = k' := ⟨k.toNat, by omega⟩
  by_cases c0 : n < 0
  · refine ⟨iz (-14), M, bindE (shelfT c) (iteFE b2iT (bindE w2 (iteFE b2iT (iteTE (e60.mpr c6) (iteFE (fun q => by have := e0'.mp q; omega) rfl))))), bindP_eq (shelfT c) (iteF b2iT (bindP_eq w1 (iteF b2iT (iteT (e60.mpr c6) (iteT (e0.mpr c0) ⟨?_, 980, rfl, rfl, hR⟩)))))⟩
    rcases (show k = 0 ∨ k = 1 ∨ k = 2 ∨ k = 3 ∨ k = 4 by omega) with e | e | e | e | e <;> subst e
    · exact Or.inl rfl
    · exact Or.inr (Or.inl rfl)
    · exact Or.inr (Or.inr (Or.inl rfl))
    · exact Or.inr (Or.inr (Or.inr (Or.inl rfl)))
    · exact Or.inr (Or.inr (Or.inr (Or.inr rfl)))
  obtain ⟨n, rfl⟩ : ∃ n' : Nat, n = n' := ⟨n.toNat, by omega⟩
  obtain ⟨s, rfl⟩ : ∃ s : Nat, z = s := ⟨z.toNat, by omega⟩
  obtain ⟨T', g1, g2, g3, g4⟩ := m_row_l N (s := s) (by omega) N 0 (sA (sA M 41 s (iz k)) 42 s (iz n)) (by omega) (by omega)
  refine ⟨1, T', bindE (shelfT c) (iteFE b2iT (bindE w2 (iteFE b2iT (iteTE (e60.mpr c6) (iteTE (e0'.mpr (by omega)) (chkE rfl (by omega) ?_)))))), bindP_eq (shelfT c) (iteF b2iT (bindP_eq w1 (iteF b2iT (iteT (e60.mpr c6) (iteF (fun q => c0 (e0.mp q)) ⟨by rw [iz_clampN (by omega)]; omega, chkP_ok (by omega) (by decide) ⟨998, rfl, fun q b hq hb => ⟨rfl, ?_⟩⟩⟩)))))⟩
  · rw [iz_clampN (by omega), nm_eq]
    refine chkE rfl (by omega) ?_
    rw [nm_eq]
    exact g1
  · rw [rowT_iz (by omega)] at hb ⊢
    rw [iz_clampN (by omega), iz_clampN (by omega)]
    refine R_newRow hR (by omega) (by omega) (by omega) hq hb (by rw [g2]; rfl) (fun j j1 j2 => ?_) (fun j => ?_) (fun j => ?_) (fun j => by rw [g4]; rfl)
    · rw [g3]
      funext i
      rw [sA21, if_neg j2, sA21, if_neg j1]
    · rw [ma_cg (M' := T') (congrFun g3 _), ma_sA _ _ _ (by omega), if_neg (by decide), ma_sA _ _ _ (by omega), if_pos rfl]
    · rw [ma_cg (M' := T') (congrFun g3 _), ma_sA _ _ _ (by omega), if_pos rfl]
      by_cases cj : j = s
      · rw [if_pos cj, if_pos cj]
      · rw [if_neg cj, if_neg cj, ma_sA _ _ _ (by omega), if_neg (by decide)]
