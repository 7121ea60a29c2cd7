/-! PLAIN LAW: shift. Own text. -/
set_option maxRecDepth 100000
/-- a row written anew, in both -/
theorem R_row {X : XS} {M M' : MS} (h : R X M) {s k a b : Nat} {y y2 : XO} (hs : s < 6) (hk : ma M 41 s = k) (k4 : k ≤ 4) (ha : X.2.2.1 48 s = some a) (hy : rowZ X a (23 + k) = some (b, y)) (e1 : y2.1 = y.1) (en : y2.2.2.2.1 = y.2.2.2.1) (hf : ∀ j, j < y2.2.2.2.1 → fitE (23 + k) (y2.2.2.2.2.1 j) = true) (hn : y.2.2.2.1 ≤ 60) (m1 : M'.1 = M.1) (m2 : M'.2.1 = M.2.1) (mo : ∀ q, (q < 60 * s ∨ 60 * s + y.2.2.2.1 ≤ q) → M'.2.2 q = M.2.2 q) (mi : ∀ j, j < y.2.2.2.1 → rAt (23 + k) y2 j = M'.2.2 (60 * s + j)) : R (xO X b y2) M' := by
  have hR := h
  obtain ⟨h1, h2, h3, h4, h5, h6, h7, h8, h9⟩ := h
  obtain ⟨x, x1, x2, x3, y1, y2'⟩ := rowZ_ex hy
  have i1 : ∀ j, M'.1 j = M.1 j := fun j => by rw [m1]
  have i2 : ∀ j, M'.2.1 j = M.2.1 j := fun j => by rw [m2]
  have mma : ∀ r j, ma M' r j = ma M r j := fun r j => ma_cg (i2 r) j
  have mmi : ∀ r, Jvm.Pilot.CNineKeysRoundLaw_law_r2277_f4e67e.mi M' r = Jvm.Pilot.CNineKeysRoundLaw_law_r2277_f4e67e.mi M r := fun r => mi_cg (i1 r)
  have ko : ∀ (c : Nat) (o : XO), X.2.2.2 c = some o → o.1 < 30 → (xO X b y2).2.2.2 c = some o := fun c o hc ho => xO_keep (t := 23 + k + 7) (fun u hu => by rw [y1] at hu; cases hu; exact y2') hc (by omega)
  have kb : ∀ (c : Nat), c ≠ b → (xO X b y2).2.2.2 c = X.2.2.2 c := fun c hc => by rw [xO23, if_neg hc]
  have row1 : rowZ (xO X b y2) a (23 + k) = some (b, y2) := rowZ_mk (ko a x x1 (by omega)) x2 x3 (xO_at _ _ _) (by rw [e1]; exact y2') hf
  have row2 : ∀ (s' k' a' b' : Nat) (y' : XO), s' < 6 → s' ≠ s → ma M 41 s' = k' → k' ≤ 4 → X.2.2.1 48 s' = some a' → rowZ X a' (23 + k') = some (b', y') → rowZ (xO X b y2) a' (23 + k') = some (b', y') := by
    intro s' k' a' b' y' g1 g2 g3 g4 g5 g6
    obtain ⟨x', u1, u2, u3, u4, u5⟩ := rowZ_ex g6
    exact rowZ_mk (ko a' x' u1 (by omega)) u2 u3 (by rw [kb b' (h9.2 s' s k' k a' a b' b y' y g1 hs g2 g3 g4 hk k4 g5 ha g6 hy)]; exact u4) u5 (rowZ_fit g6)
  have m0 : Jvm.Pilot.CNineKeysRoundLaw_law_r2277_f4e67e.mi M 0 ≤ Jvm.Pilot.CNineKeysRoundLaw_law_r2277_f4e67e.mi M' 0 := by rw [mmi 0]; omega
  refine ⟨h1.cg rfl rfl rfl rfl rfl rfl (fun c o g t => ko c o g (by omega)) (i1 0) (i2 1) (i2 2) (i2 3) (i2 4) (i2 5) (i2 26), h2.cg rfl rfl rfl (fun c o g t => ko c o g (by omega)) m0 (i1 34) (i1 35) (i2 36), h3.cg rfl rfl (i1 6) (i2 7), h4.cg rfl (fun c o g t => ko c o g (by omega)) (i1 8) (i1 9) (i2 10) (i2 11) (i2 12) (i2 13), h5.cg rfl rfl rfl rfl rfl rfl m0 (i1 24) (i1 25) (i2 27), h6.cg rfl rfl rfl rfl rfl rfl rfl rfl rfl m0 (i1 28) (i1 29) (i1 30) (i1 31) (i2 32) (i2 33), h7.cg rfl rfl (i1 39) (i2 40), h8.cg rfl rfl (fun c o g t => ko c o g (by omega)) (i1 37) (i2 38), fun s' hs' => ?_, ?_⟩
  · by_cases c : s' = s
    · subst c
      obtain ⟨a0, b0, y0, q1, q2, q3, q4, q5⟩ := (h9.1 s' hs').row hk k4
      rw [ha] at q1; cases q1
      rw [hy] at q2; cases q2
      exact Or.inr (Or.inr ⟨k, a, b, y2, k4, by rw [mma]; exact hk, ha, row1, by rw [mma, en]; exact q3, by rw [en]; exact q4, fun j hj => mi j (by omega)⟩)
    · rcases h9.1 s' hs' with ⟨q, q0⟩ | ⟨b', q, q0, q00⟩ | ⟨k', a', b', y', q1, q2, q3, q4, q5, q6, q7⟩
      · exact Or.inl ⟨by rw [mma]; exact q, q0⟩
      · exact Or.inr (Or.inl ⟨b', by rw [mma]; exact q, by rw [mmi]; exact q0, q00⟩)
      · refine Or.inr (Or.inr ⟨k', a', b', y', q1, by rw [mma]; exact q2, q3, row2 s' k' a' b' y' hs' c q2 q1 q3 q4, by rw [mma]; exact q5, q6, fun j hj => ?_⟩)
        rw [mo _ (by omega), q7 j hj]
  · intro s1 s2 k1 k2 a1 a2 b1 b2 z1 z2 g1 g2 g3 g4 g5 g6 g7 g8 g9 g10 g11
    rw [mma] at g4 g6
    have old : ∀ (s' k' a' b' : Nat) (z' : XO), s' < 6 → ma M 41 s' = k' → k' ≤ 4 → X.2.2.1 48 s' = some a' → rowZ (xO X b y2) a' (23 + k') = some (b', z') → ∃ z'', rowZ X a' (23 + k') = some (b', z'') := by
      intro s' k' a' b' z' u1 u2 u3 u4 u5
      obtain ⟨a0, b0, y0, q1, q2, -⟩ := (h9.1 s' u1).row u2 u3
      rw [u4] at q1; cases q1
      by_cases c : s' = s
      · subst c
        rw [ha] at u4; cases u4
        have ek : k' = k := by omega
        subst ek
        rw [row1] at u5; cases u5
        exact ⟨y, hy⟩
      · rw [row2 s' k' a' b0 y0 u1 c u2 u3 u4 q2] at u5
        cases u5
        exact ⟨_, q2⟩
    obtain ⟨z1', e1⟩ := old s1 k1 a1 b1 z1 g1 g4 g5 g8 g10
    obtain ⟨z2', e2⟩ := old s2 k2 a2 b2 z2 g2 g6 g7 g9 g11
    exact h9.2 s1 s2 k1 k2 a1 a2 b1 b2 z1' z2' g1 g2 g3 g4 g5 g6 g7 g8 g9 e1 e2
theorem cpyZ_1 (t : Nat) (z z' : XO) (i j n : Nat) : (cpyZ t z z' i j n).1 = z'.1 := by unfold cpyZ; split <;> rfl
theorem cpyZ_n (t : Nat) (z z' : XO) (i j n : Nat) : (cpyZ t z z' i j n).2.2.2.1 = z'.2.2.2.1 := by unfold cpyZ; split <;> rfl
theorem rAt_cpy {k : Nat} (h : k ≤ 4) (z z' : XO) (i j n q : Nat) : rAt (23 + k) (cpyZ (23 + k) z z' i j n) q = if j ≤ q ∧ q < j + n then rAt (23 + k) z (i + (q - j)) else rAt (23 + k) z' q := by
  rcases (show k = 0 ∨ k = 1 ∨ k = 2 ∨ k = 3 ∨ k = 4 by omega) with e | e | e | e | e <;> subst e
  · show (va_cpy z.2.2.2.2.1 z'.2.2.2.2.1 i j n q).toInt64 = if j ≤ q ∧ q < j + n then (z.2.2.2.2.1 (i + (q - j))).toInt64 else (z'.2.2.2.2.1 q).toInt64
    unfold va_cpy
    split <;> rfl
  · show (va_cpy z.2.2.2.2.1 z'.2.2.2.2.1 i j n q).toInt64 = if j ≤ q ∧ q < j + n then (z.2.2.2.2.1 (i + (q - j))).toInt64 else (z'.2.2.2.2.1 q).toInt64
    unfold va_cpy
    split <;> rfl
  · show (va_cpy z.2.2.2.2.1 z'.2.2.2.2.1 i j n q).toInt64 = if j ≤ q ∧ q < j + n then (z.2.2.2.2.1 (i + (q - j))).toInt64 else (z'.2.2.2.2.1 q).toInt64
    unfold va_cpy
    split <;> rfl
  · show va_cpy z.2.2.2.2.2 z'.2.2.2.2.2 i j n q = if j ≤ q ∧ q < j + n then z.2.2.2.2.2 (i + (q - j)) else z'.2.2.2.2.2 q
    rfl
  · show (if va_cpy z.2.2.2.2.1 z'.2.2.2.2.1 i j n q = 0 then (0 : Int64) else 1) = if j ≤ q ∧ q < j + n then (if z.2.2.2.2.1 (i + (q - j)) = 0 then (0 : Int64) else 1) else (if z'.2.2.2.2.1 q = 0 then (0 : Int64) else 1)
    unfold va_cpy
    by_cases c : j ≤ q ∧ q < j + n
    · rw [if_pos c, if_pos c]
    · rw [if_neg c, if_neg c]
theorem cpyZ_fit {t : Nat} {z z' : XO} {i j n : Nat} (h : ∀ q, q < z.2.2.2.1 → fitE t (z.2.2.2.2.1 q) = true) (h' : ∀ q, q < z'.2.2.2.1 → fitE t (z'.2.2.2.2.1 q) = true) (hi : i + n ≤ z.2.2.2.1) : ∀ q, q < (cpyZ t z z' i j n).2.2.2.1 → fitE t ((cpyZ t z z' i j n).2.2.2.2.1 q) = true := by
  intro q hq
  rw [cpyZ_n] at hq
  unfold cpyZ
  by_cases c : t = 26
  · rw [if_pos c]; exact h' q hq
  · rw [if_neg c]
    show fitE t (va_cpy z.2.2.2.2.1 z'.2.2.2.2.1 i j n q) = true
    unfold va_cpy
    by_cases d : j ≤ q ∧ q < j + n
    · rw [if_pos d]; exact h _ (by omega)
    · rw [if_neg d]; exact h' q hq
/-- what the reference has copied -/
def cpM (M : MS) (S D lo hi : Nat) (T : MS) : Prop := T.1 = M.1 ∧ T.2.1 = M.2.1 ∧ ∀ q, T.2.2 q = if D + lo ≤ q ∧ q < D + hi then M.2.2 (S + (q - D)) else M.2.2 q
theorem fwd_l {M : MS} (N : Nat) {s s' i j n : Nat} (hs : s < 6) (hs' : s' < 6) (hi : i + n ≤ 60) (hj : j + n ≤ 60) (ho : s ≠ s' ∨ j ≤ i) : ∀ (fu w : Nat) (T : MS), w ≤ n → n - w < fu → cpM M (60 * s + i) (60 * s' + j) 0 w T → ∃ T', m_shift_b188 N (iz s) (iz i) (iz s') (iz j) (iz n) fu T (iz w) = some (iz n, T') ∧ cpM M (60 * s + i) (60 * s' + j) 0 n T' := by
  intro fu
  induction fu with
  | zero => intro w T a b; omega
  | succ fu ih =>
    intro w T a b hc
    rw [m_shift_b188]
    by_cases c : n ≤ w
    · obtain rfl : w = n := by omega
      exact ⟨T, iteTE (Int32.le_refl _) rfl, hc⟩
    have nw : iz w + 1 = iz ((w + 1 : Nat) : Int) := by rw [show (1 : Int32) = iz 1 from rfl, iz_add]; rfl
    have eS : ((60 * iz s) + iz i) + iz w = iz ((60 * s + i + w : Nat) : Int) := by rw [show (60 : Int32) = iz 60 from rfl, iz_mul, iz_add, iz_add]; congr 1
    have eD : ((60 * iz s') + iz j) + iz w = iz ((60 * s' + j + w : Nat) : Int) := by rw [show (60 : Int32) = iz 60 from rfl, iz_mul, iz_add, iz_add]; congr 1
    obtain ⟨c1, c2, c3⟩ := hc
    have src : T.2.2 (60 * s + i + w) = M.2.2 (60 * s + i + w) := by
      rw [c3, if_neg (by omega)]
    obtain ⟨T', g1, g2⟩ := ih (w + 1) (sL T (60 * s' + j + w) (M.2.2 (60 * s + i + w))) (by omega) (by omega) ⟨c1, c2, fun q => by
      rw [sL22]
      by_cases d : q = 60 * s' + j + w
      · rw [if_pos d, if_pos (by omega), show q - (60 * s' + j) = w by omega]
      · rw [if_neg d, c3]
        by_cases d2 : 60 * s' + j + 0 ≤ q ∧ q < 60 * s' + j + w
        · rw [if_pos d2, if_pos (by omega)]
        · rw [if_neg d2, if_neg (by omega)]⟩
    refine ⟨T', iteFE (by rw [iz_le (by omega)]; omega) (chkE eS (by omega) (chkE eD (by omega) ?_)), g2⟩
    rw [nmE, nmE, nw, eS, eD, iz_clampN (by omega), iz_clampN (by omega), src]
    exact g1
theorem bwd_l {M : MS} (N : Nat) {s i j n : Nat} (hs : s < 6) (hi : i + n ≤ 60) (hj : j + n ≤ 60) (ho : i < j) : ∀ (fu w : Nat) (T : MS), w ≤ n → w < fu → cpM M (60 * s + i) (60 * s + j) w n T → ∃ T', m_shift_b142 N (iz s) (iz i) (iz s) (iz j) (iz n) fu T (iz ((w : Int) - 1)) = some (iz n, T') ∧ cpM M (60 * s + i) (60 * s + j) 0 n T' := by
  intro fu
  induction fu with
  | zero => intro w T a b; omega
  | succ fu ih =>
    intro w T a b hc
    rw [m_shift_b142]
    by_cases c : w = 0
    · subst c
      exact ⟨T, iteTE (by decide) rfl, hc⟩
    obtain ⟨w, rfl⟩ : ∃ v, w = v + 1 := ⟨w - 1, by omega⟩
    have ew : ((w + 1 : Nat) : Int) - 1 = w := by omega
    rw [ew]
    have nw : iz w + (-1) = iz ((w : Int) - 1) := by rw [show (-1 : Int32) = iz (-1) from rfl, iz_add]; rfl
    have eS : ((60 * iz s) + iz i) + iz w = iz ((60 * s + i + w : Nat) : Int) := by rw [show (60 : Int32) = iz 60 from rfl, iz_mul, iz_add, iz_add]; congr 1
    have eD : ((60 * iz s) + iz j) + iz w = iz ((60 * s + j + w : Nat) : Int) := by rw [show (60 : Int32) = iz 60 from rfl, iz_mul, iz_add, iz_add]; congr 1
    obtain ⟨c1, c2, c3⟩ := hc
    have src : T.2.2 (60 * s + i + w) = M.2.2 (60 * s + i + w) := by
      rw [c3, if_neg (by omega)]
    obtain ⟨T', g1, g2⟩ := ih w (sL T (60 * s + j + w) (M.2.2 (60 * s + i + w))) (by omega) (by omega) ⟨c1, c2, fun q => by
      rw [sL22]
      by_cases d : q = 60 * s + j + w
      · rw [if_pos d, if_pos (by omega), show q - (60 * s + j) = w by omega]
      · rw [if_neg d, c3]
        by_cases d2 : 60 * s + j + (w + 1) ≤ q ∧ q < 60 * s + j + n
        · rw [if_pos d2, if_pos (by omega)]
        · rw [if_neg d2, if_neg (by omega)]⟩
    refine ⟨T', iteFE (by rw [show (0 : Int32) = iz 0 from rfl, iz_lt (by omega)]; omega) (chkE eS (by omega) (chkE eD (by omega) ?_)), g2⟩
    rw [nmE, nmE, nw, eS, eD, iz_clampN (by omega), iz_clampN (by omega), src]
    exact g1
theorem law_shift {X : XS} {M : MS} (h : R X M) {N : Nat} (hN : 100 ≤ N) (p1 p2 p3 p4 p5 : Int32) : same (x_shift X p1 p2 p3 p4 p5) (m_shift N M p1 p2 p3 p4 p5) := by
  have hR := h
  obtain ⟨z, hz, rfl⟩ := izE p1
  obtain ⟨i, hi, rfl⟩ := izE p2
  obtain ⟨y, hy, rfl⟩ := izE p3
  obtain ⟨j, hj, rfl⟩ := izE p4
  obtain ⟨n, hn, rfl⟩ := izE p5
  obtain ⟨h1, h2, h3, h4, h5, h6, h7, h8, h9⟩ := h
  unfold x_shift m_shift
  by_cases c : ¬ (0 ≤ z ∧ z ≤ 5)
  · exact ⟨_, _, _, bindE (shelfF hz c) (iteTE rfl rfl), bindE (shelfF hz c) (iteTE rfl rfl), hR⟩
  replace c := Decidable.not_not.mp c
  by_cases c' : ¬ (0 ≤ y ∧ y ≤ 5)
  · exact ⟨_, _, _, bindE (shelfT c) (iteFE b2iT (bindE (shelfF hy c') (iteTE rfl rfl))), bindE (shelfT c) (iteFE b2iT (bindE (shelfF hy c') (iteTE rfl rfl))), hR⟩
  replace c' := Decidable.not_not.mp c'
  obtain ⟨s, rfl⟩ : ∃ s : Nat, z = s := ⟨z.toNat, by omega⟩
  obtain ⟨r, rfl⟩ : ∃ r : Nat, y = r := ⟨y.toNat, by omega⟩
  have es : (iz s).toNatClampNeg = s := iz_clampN (by omega)
  have er : (iz r).toNatClampNeg = r := iz_clampN (by omega)
  have r41 := ma_R M 41 s
  have r41' := ma_R M 41 r
  have S1 := h9.1 s (by omega)
  have S2 := h9.1 r (by omega)
  have lit : ∀ (w : Nat), w ≤ 5 → ((M.2.1 41 (iz w).toNatClampNeg = (-1 : Int32)) ↔ ma M 41 w = -1) := fun w hw => by
    have := ma_R M 41 w
    rw [iz_clampN (by omega), ma_eq M 41, show (-1 : Int32) = iz (-1) from rfl, iz_eq (by omega)]
  -- nothing on a shelf
  have nul : ∀ w : Nat, w < 6 → ma M 41 w = -1 → X.2.2.1 48 (iz w).toNatClampNeg = none := fun w hw d => by
    rw [iz_clampN (by omega)]
    rcases h9.1 w hw with ⟨-, q⟩ | ⟨b, q, -⟩ | ⟨k, a, b, y, q1, q2, -⟩
    · exact q
    · omega
    · omega
  by_cases d : ma M 41 s = -1
  · exact ⟨iz (-11), X, M, bindE (shelfT c) (iteFE b2iT (bindE (shelfT c') (iteFE b2iT (chkE rfl (by omega) (onlN (nul s (by omega) d) rfl))))), bindE (shelfT c) (iteFE b2iT (bindE (shelfT c') (iteFE b2iT (chkE rfl (by omega) (iteTE ((lit s (by omega)).mpr d) rfl))))), hR⟩
  have dx : ¬ M.2.1 41 (iz s).toNatClampNeg = (-1 : Int32) := fun q => d ((lit s (by omega)).mp q)
  -- something on a shelf
  have some_ : ∀ w : Nat, w < 6 → ma M 41 w ≠ -1 → (∃ (k a : Nat) (o : XO), 5 ≤ ma M 41 w ∧ X.2.2.1 48 w = some a ∧ X.2.2.2 a = some o ∧ o.1 = 14 + k ∧ k ≤ 7) ∨ (∃ (k a b : Nat) (o : XO) (y : XO), k ≤ 4 ∧ ma M 41 w = k ∧ X.2.2.1 48 w = some a ∧ X.2.2.2 a = some o ∧ o.1 = 23 + k ∧ rowZ X a (23 + k) = some (b, y) ∧ ma M 42 w = y.2.2.2.1 ∧ y.2.2.2.1 ≤ 60 ∧ ∀ j : Nat, j < y.2.2.2.1 → rAt (23 + k) y j = M.2.2 (60 * w + j)) := fun w hw hne => by
    have e1 := h9.1 w hw
    by_cases d2 : 5 ≤ ma M 41 w
    · obtain ⟨b, k, a, o, q1, q2, q3, q4, q5, q6, q7, q8, q9⟩ := e1.body h8 d2
      exact Or.inl ⟨k, a, o, d2, q4, q5, q6, q7⟩
    · obtain ⟨k, k4, hk⟩ := e1.ge.2 (by omega) (by have := e1.ge.1; omega)
      obtain ⟨a, b, y, g1, g2, g3, g4, g5⟩ := e1.row hk k4
      obtain ⟨x, x1, x2, -⟩ := rowZ_ex g2
      exact Or.inr ⟨k, a, b, x, y, k4, hk, g1, x1, x2, g2, g3, g4, g5⟩
  by_cases d' : ma M 41 r = -1
  · have ex : ∃ a, X.2.2.1 48 (iz s).toNatClampNeg = some a := by
      rw [es]
      rcases some_ s (by omega) d with ⟨k, a, o, _, q, _⟩ | ⟨k, a, b, o, y, _, _, q, _⟩
      · exact ⟨a, q⟩
      · exact ⟨a, q⟩
    obtain ⟨a, ea⟩ := ex
    exact ⟨iz (-11), X, M, bindE (shelfT c) (iteFE b2iT (bindE (shelfT c') (iteFE b2iT (chkE rfl (by omega) (onlS ea (chkE rfl (by omega) (onlN (nul r (by omega) d') rfl))))))), bindE (shelfT c) (iteFE b2iT (bindE (shelfT c') (iteFE b2iT (chkE rfl (by omega) (iteFE dx (chkE rfl (by omega) (iteTE ((lit r (by omega)).mpr d') rfl))))))), hR⟩
  have dx' : ¬ M.2.1 41 (iz r).toNatClampNeg = (-1 : Int32) := fun q => d' ((lit r (by omega)).mp q)
  have cs : (0 : Int) ≤ s ∧ (s : Int) ≤ 5 := c
  have cr : (0 : Int) ≤ r ∧ (r : Int) ≤ 5 := c'
  have isr := isRow_iz (M := M) cs
  have isr' := isRow_iz (M := M) cr
  rw [show ((s : Int)).toNat = s by omega] at isr
  rw [show ((r : Int)).toNat = r by omega] at isr'
  have xx : ∀ {a a' : Nat} (q : Option (Int32 × XS)), X.2.2.1 48 s = some a → X.2.2.1 48 r = some a' → (X.2.2.2 a).bind (fun x => (if x.1 ∈ [14, 15, 16, 17, 18, 19, 20, 21] then some ((-12), X) else (X.2.2.2 a').bind fun x' => (if x'.1 ∈ [14, 15, 16, 17, 18, 19, 20, 21] then (if x.1 = 23 ∨ x.1 = 24 ∨ x.1 = 25 ∨ x.1 = 26 ∨ x.1 = 27 then some ((-12), X) else none) else (if x'.1 = 23 ∨ x'.1 = 24 ∨ x'.1 = 25 ∨ x'.1 = 26 ∨ x'.1 = 27 then if x.1 = 23 then b2 (rowZ X a 23) fun b z => (if x'.1 ∈ [24, 25, 26, 27] then some ((-12), X) else b2 (rowZ X a' 23) fun b' z' => (if cpBad z.2.2.2.1 z'.2.2.2.1 (iz i) (iz j) (iz n) then (if z.2.2.2.1 < 2147483648 ∧ z'.2.2.2.1 < 2147483648 then some ((-13), X) else none) else nm (xO X b' (cpyI z z' (iz i).toNatClampNeg (iz j).toNatClampNeg (iz n).toNatClampNeg)) fun X' => some ((iz n), X'))) else if x.1 = 24 then b2 (rowZ X a 24) fun b z => (if x'.1 ∈ [23, 25, 26, 27] then some ((-12), X) else b2 (rowZ X a' 24) fun b' z' => (if cpBad z.2.2.2.1 z'.2.2.2.1 (iz i) (iz j) (iz n) then (if z.2.2.2.1 < 2147483648 ∧ z'.2.2.2.1 < 2147483648 then some ((-13), X) else none) else nm (xO X b' (cpyI z z' (iz i).toNatClampNeg (iz j).toNatClampNeg (iz n).toNatClampNeg)) fun X' => some ((iz n), X'))) else if x.1 = 25 then b2 (rowZ X a 25) fun b z => (if x'.1 ∈ [23, 24, 26, 27] then some ((-12), X) else b2 (rowZ X a' 25) fun b' z' => (if cpBad z.2.2.2.1 z'.2.2.2.1 (iz i) (iz j) (iz n) then (if z.2.2.2.1 < 2147483648 ∧ z'.2.2.2.1 < 2147483648 then some ((-13), X) else none) else nm (xO X b' (cpyI z z' (iz i).toNatClampNeg (iz j).toNatClampNeg (iz n).toNatClampNeg)) fun X' => some ((iz n), X'))) else if x.1 = 26 then b2 (rowZ X a 26) fun b z => (if x'.1 ∈ [23, 24, 25, 27] then some ((-12), X) else b2 (rowZ X a' 26) fun b' z' => (if cpBad z.2.2.2.1 z'.2.2.2.1 (iz i) (iz j) (iz n) then (if z.2.2.2.1 < 2147483648 ∧ z'.2.2.2.1 < 2147483648 then some ((-13), X) else none) else nm (xO X b' (cpyL z z' (iz i).toNatClampNeg (iz j).toNatClampNeg (iz n).toNatClampNeg)) fun X' => some ((iz n), X'))) else if x.1 = 27 then b2 (rowZ X a 27) fun b z => (if x'.1 ∈ [23, 24, 25, 26] then some ((-12), X) else b2 (rowZ X a' 27) fun b' z' => (if cpBad z.2.2.2.1 z'.2.2.2.1 (iz i) (iz j) (iz n) then (if z.2.2.2.1 < 2147483648 ∧ z'.2.2.2.1 < 2147483648 then some ((-13), X) else none) else nm (xO X b' (cpyI z z' (iz i).toNatClampNeg (iz j).toNatClampNeg (iz n).toNatClampNeg)) fun X' => some ((iz n), X'))) else none else none)))) = q → x_shift X (iz s) (iz i) (iz r) (iz j) (iz n) = q := fun q e1 e2 hq => by
    unfold x_shift
    exact bindE (shelfT c) (iteFE b2iT (bindE (shelfT c') (iteFE b2iT (chkE rfl (by omega) (onlS (by rw [es]; exact e1) (chkE rfl (by omega) (onlS (by rw [er]; exact e2) hq)))))))
  have mm : ∀ q, ((m_isRow M (iz s)).bind fun v8 => (if (b2i v8) = 0 then some ((-12), M) else (m_isRow M (iz r)).bind fun v10 => (if (b2i v10) = 0 then some ((-12), M) else chk 6 (iz s) ( chk 6 (iz r) ( (if (M.2.1 41 (iz s).toNatClampNeg) = (M.2.1 41 (iz r).toNatClampNeg) then (if (iz n) < 0 then some ((-13), M) else (if (iz i) < 0 then some ((-13), M) else (if (iz j) < 0 then some ((-13), M) else chk 6 (iz s) ( (if 0 < (lg_cmp ((iz i).toInt64 + (iz n).toInt64) ((M.2.1 42 (iz s).toNatClampNeg).toInt64)) then some ((-13), M) else chk 6 (iz r) ( (if (lg_cmp ((iz j).toInt64 + (iz n).toInt64) ((M.2.1 42 (iz r).toNatClampNeg).toInt64)) ≤ 0 then (if (iz s) = (iz r) then (if (iz j) ≤ (iz i) then m_shift_b188 N (iz s) (iz i) (iz r) (iz j) (iz n) N M 0 else nm ((iz n) - 1) fun x15 => m_shift_b142 N (iz s) (iz i) (iz r) (iz j) (iz n) N M x15) else m_shift_b188 N (iz s) (iz i) (iz r) (iz j) (iz n) N M 0) else some ((-13), M)))))))) else some ((-12), M))))))) = q → m_shift N M (iz s) (iz i) (iz r) (iz j) (iz n) = q := fun q hq => by
    unfold m_shift
    exact bindE (shelfT c) (iteFE b2iT (bindE (shelfT c') (iteFE b2iT (chkE rfl (by omega) (iteFE dx (chkE rfl (by omega) (iteFE dx' hq)))))))
  rcases some_ s (by omega) d with ⟨k, a, o, u1, u2, u3, u4, u5⟩ | ⟨k, a, b, o, w, k4, hk, u2, u3, u4, u5, u6, u7, u8⟩
  · rw [decide_eq_false (by omega)] at isr
    have ex : ∃ a', X.2.2.1 48 r = some a' := by
      rcases some_ r (by omega) d' with ⟨k, a, o, _, q, _⟩ | ⟨k, a, b, o, y, _, _, q, _⟩
      · exact ⟨a, q⟩
      · exact ⟨a, q⟩
    obtain ⟨a', ea⟩ := ex
    exact ⟨iz (-12), X, M, xx _ u2 ea (bindE u3 (iteTE (by simp only [List.mem_cons, List.not_mem_nil, or_false]; omega) rfl)), mm _ (bindE isr (iteTE rfl rfl)), hR⟩
  rw [decide_eq_true (by omega)] at isr
  have nk : ¬ o.1 ∈ [14, 15, 16, 17, 18, 19, 20, 21] := fun q => by
    simp only [List.mem_cons, List.not_mem_nil, or_false] at q
    omega
  rcases some_ r (by omega) d' with ⟨k', a', o', v1, v2, v3, v4, v5⟩ | ⟨k', a', b', o', w', k4', hk', v2, v3, v4, v5, v6, v7, v8⟩
  · rw [decide_eq_false (by omega)] at isr'
    exact ⟨iz (-12), X, M, xx _ u2 v2 (bindE u3 (iteFE nk (bindE v3 (iteTE (by simp only [List.mem_cons, List.not_mem_nil, or_false]; omega) (iteTE (by omega) rfl))))), mm _ (bindE isr (iteFE b2iT (bindE isr' (iteTE rfl rfl)))), hR⟩
  rw [decide_eq_true (by omega)] at isr'
  have nk' : ¬ o'.1 ∈ [14, 15, 16, 17, 18, 19, 20, 21] := fun q => by
    simp only [List.mem_cons, List.not_mem_nil, or_false] at q
    omega
  have rk' : o'.1 = 23 ∨ o'.1 = 24 ∨ o'.1 = 25 ∨ o'.1 = 26 ∨ o'.1 = 27 := by omega
  have eqk : (M.2.1 41 (iz s).toNatClampNeg = M.2.1 41 (iz r).toNatClampNeg) ↔ k = k' := by rw [es, er, ma_eq M 41 s, ma_eq M 41 r, hk, hk', iz_eq (by omega)]; omega
  -- the branch of the component by the kind of the row
  have br : ∀ q : Option (Int32 × XS), (b2 (rowZ X a (23 + k)) fun b z => (if k' ≠ k then some ((-12), X) else b2 (rowZ X a' (23 + k)) fun b' z' => (if cpBad z.2.2.2.1 z'.2.2.2.1 (iz i) (iz j) (iz n) then (if z.2.2.2.1 < 2147483648 ∧ z'.2.2.2.1 < 2147483648 then some ((-13), X) else none) else some (iz n, xO X b' (cpyZ (23 + k) z z' (iz i).toNatClampNeg (iz j).toNatClampNeg (iz n).toNatClampNeg))))) = q → x_shift X (iz s) (iz i) (iz r) (iz j) (iz n) = q := fun q hq => by
    refine xx q u2 v2 (bindE u3 (iteFE nk (bindE v3 (iteFE nk' (iteTE rk' ?_)))))
    rw [u5] at hq
    replace hq : (if k' ≠ k then some ((-12), X) else b2 (rowZ X a' (23 + k)) fun b' z' => (if cpBad w.2.2.2.1 z'.2.2.2.1 (iz i) (iz j) (iz n) then (if w.2.2.2.1 < 2147483648 ∧ z'.2.2.2.1 < 2147483648 then some ((-13), X) else none) else some (iz n, xO X b' (cpyZ (23 + k) w z' (iz i).toNatClampNeg (iz j).toNatClampNeg (iz n).toNatClampNeg)))) = q := hq
    have fin : ∀ (K : Option (Int32 × XS)), (¬ k' ≠ k → K = q) → ∀ (l : List Nat) (_ : o'.1 ∈ l ↔ k' ≠ k), (if o'.1 ∈ l then some ((-12), X) else K) = q := fun K hK l hl => by
      by_cases e : k' ≠ k
      · rw [if_pos e] at hq
        exact iteTE (hl.mpr e) hq
      · exact iteFE (fun z => e (hl.mp z)) (hK e)
    have hq2 : ¬ k' ≠ k → (b2 (rowZ X a' (23 + k)) fun b' z' => (if cpBad w.2.2.2.1 z'.2.2.2.1 (iz i) (iz j) (iz n) then (if w.2.2.2.1 < 2147483648 ∧ z'.2.2.2.1 < 2147483648 then some ((-13), X) else none) else some (iz n, xO X b' (cpyZ (23 + k) w z' (iz i).toNatClampNeg (iz j).toNatClampNeg (iz n).toNatClampNeg)))) = q := fun e => by rw [if_neg e] at hq; exact hq
    rcases (show k = 0 ∨ k = 1 ∨ k = 2 ∨ k = 3 ∨ k = 4 by omega) with e | e | e | e | e <;> subst e
    · exact iteTE u4 (b2E u5 (fin _ hq2 _ (by simp only [List.mem_cons, List.not_mem_nil, or_false]; omega)))
    · exact iteFE (by omega) (iteTE u4 (b2E u5 (fin _ hq2 _ (by simp only [List.mem_cons, List.not_mem_nil, or_false]; omega))))
    · exact iteFE (by omega) (iteFE (by omega) (iteTE u4 (b2E u5 (fin _ hq2 _ (by simp only [List.mem_cons, List.not_mem_nil, or_false]; omega)))))
    · exact iteFE (by omega) (iteFE (by omega) (iteFE (by omega) (iteTE u4 (b2E u5 (fin _ hq2 _ (by simp only [List.mem_cons, List.not_mem_nil, or_false]; omega))))))
    · exact iteFE (by omega) (iteFE (by omega) (iteFE (by omega) (iteFE (by omega) (iteTE u4 (b2E u5 (fin _ hq2 _ (by simp only [List.mem_cons, List.not_mem_nil, or_false]; omega)))))))
  by_cases ek : k' ≠ k
  · exact ⟨iz (-12), X, M, br _ (b2E u5 (iteTE ek rfl)), mm _ (bindE isr (iteFE b2iT (bindE isr' (iteFE b2iT (chkE rfl (by omega) (chkE rfl (by omega) (iteFE (fun q => ek (eqk.mp q).symm) rfl))))))), hR⟩
  have kk : k' = k := by omega
  subst kk
  have mm2 : ∀ q, (if iz n < 0 then some ((-13), M) else (if iz i < 0 then some ((-13), M) else (if iz j < 0 then some ((-13), M) else chk 6 (iz s) (if 0 < (lg_cmp ((iz i).toInt64 + (iz n).toInt64) ((M.2.1 42 (iz s).toNatClampNeg).toInt64)) then some ((-13), M) else chk 6 (iz r) (if (lg_cmp ((iz j).toInt64 + (iz n).toInt64) ((M.2.1 42 (iz r).toNatClampNeg).toInt64)) ≤ 0 then (if iz s = iz r then (if iz j ≤ iz i then m_shift_b188 N (iz s) (iz i) (iz r) (iz j) (iz n) N M 0 else nm (iz n - 1) fun x15 => m_shift_b142 N (iz s) (iz i) (iz r) (iz j) (iz n) N M x15) else m_shift_b188 N (iz s) (iz i) (iz r) (iz j) (iz n) N M 0) else some ((-13), M)))))) = q → m_shift N M (iz s) (iz i) (iz r) (iz j) (iz n) = q := fun q hq =>
    mm _ (bindE isr (iteFE b2iT (bindE isr' (iteFE b2iT (chkE rfl (by omega) (chkE rfl (by omega) (iteTE (eqk.mpr rfl) hq)))))))
  have l0 : ∀ t : Int, (-2147483648 ≤ t ∧ t ≤ 2147483647) → ((iz t < (0 : Int32)) ↔ t < 0) := fun t ht => by rw [show (0 : Int32) = iz 0 from rfl, iz_lt (by omega)]
  have g1 : (0 < (lg_cmp ((iz i).toInt64 + (iz n).toInt64) ((M.2.1 42 (iz s).toNatClampNeg).toInt64))) ↔ (w.2.2.2.1 : Int) < i + n := by rw [lg_cmp_gt, es, ma_eq M 42, u6, lz_iz hi, lz_iz hn, lz_iz (by omega), lz_add, lz_lt (by omega)]
  have g2 : ((lg_cmp ((iz j).toInt64 + (iz n).toInt64) ((M.2.1 42 (iz r).toNatClampNeg).toInt64)) ≤ 0) ↔ j + n ≤ (w'.2.2.2.1 : Int) := by
    rw [lg_cmp_le, er, ma_eq M 42, v6, lz_iz hj, lz_iz hn, lz_iz (by omega), lz_add, Int64.le_iff_toInt_le, lz_toInt (by omega), lz_toInt (by omega)]
  have bad : cpBad w.2.2.2.1 w'.2.2.2.1 (iz i) (iz j) (iz n) ↔ (i < 0 ∨ j < 0 ∨ n < 0 ∨ (w.2.2.2.1 : Int) < i + n ∨ (w'.2.2.2.1 : Int) < j + n) := by
    unfold cpBad
    rw [l0 i hi, l0 j hj, l0 n hn, iz_toInt hi, iz_toInt hj, iz_toInt hn]
  by_cases cb : i < 0 ∨ j < 0 ∨ n < 0 ∨ (w.2.2.2.1 : Int) < i + n ∨ (w'.2.2.2.1 : Int) < j + n
  · refine ⟨iz (-13), X, M, br _ (b2E u5 (iteFE (by omega) (b2E v5 (iteTE (bad.mpr cb) (iteTE (by omega) rfl))))), mm2 _ ?_, hR⟩
    by_cases b1 : n < 0
    · exact iteTE ((l0 n hn).mpr b1) rfl
    refine iteFE (fun q => b1 ((l0 n hn).mp q)) ?_
    by_cases b2 : i < 0
    · exact iteTE ((l0 i hi).mpr b2) rfl
    refine iteFE (fun q => b2 ((l0 i hi).mp q)) ?_
    by_cases b3 : j < 0
    · exact iteTE ((l0 j hj).mpr b3) rfl
    refine iteFE (fun q => b3 ((l0 j hj).mp q)) (chkE rfl (by omega) ?_)
    by_cases b4 : (w.2.2.2.1 : Int) < i + n
    · exact iteTE (g1.mpr b4) rfl
    exact iteFE (fun q => b4 (g1.mp q)) (chkE rfl (by omega) (iteFE (fun q => by have := g2.mp q; omega) rfl))
  · obtain ⟨i, rfl⟩ : ∃ i' : Nat, i = i' := ⟨i.toNat, by omega⟩
    obtain ⟨j, rfl⟩ : ∃ j' : Nat, j = j' := ⟨j.toNat, by omega⟩
    obtain ⟨n, rfl⟩ : ∃ n' : Nat, n = n' := ⟨n.toNat, by omega⟩
    have ec : cpyZ (23 + k') w w' (iz i).toNatClampNeg (iz j).toNatClampNeg (iz n).toNatClampNeg = cpyZ (23 + k') w w' i j n := by rw [iz_clampN (by omega), iz_clampN (by omega), iz_clampN (by omega)]
    have c0 : ∀ lo, cpM M (60 * s + i) (60 * r + j) lo lo M := fun lo => ⟨rfl, rfl, fun q => by rw [if_neg (by omega)]⟩
    have run : ∃ M', (if iz s = iz r then (if iz j ≤ iz i then m_shift_b188 N (iz s) (iz i) (iz r) (iz j) (iz n) N M 0 else nm (iz n - 1) fun x15 => m_shift_b142 N (iz s) (iz i) (iz r) (iz j) (iz n) N M x15) else m_shift_b188 N (iz s) (iz i) (iz r) (iz j) (iz n) N M 0) = some (iz n, M') ∧ cpM M (60 * s + i) (60 * r + j) 0 n M' := by
      have esr : (iz s = iz r) ↔ s = r := by rw [iz_eq (by omega)]; omega
      have eji : (iz j ≤ iz i) ↔ j ≤ i := by rw [iz_le (by omega)]; omega
      by_cases a1 : s = r
      · by_cases a2 : j ≤ i
        · obtain ⟨M', q1, q2⟩ := fwd_l (M := M) N (s := s) (s' := r) (i := i) (j := j) (n := n) (by omega) (by omega) (by omega) (by omega) (Or.inr a2) N 0 M (by omega) (by omega) (c0 0)
          exact ⟨M', iteTE (esr.mpr a1) (iteTE (eji.mpr a2) q1), q2⟩
        · subst a1
          obtain ⟨M', q1, q2⟩ := bwd_l (M := M) N (s := s) (i := i) (j := j) (n := n) (by omega) (by omega) (by omega) (by omega) N n M (by omega) (by omega) (c0 n)
          refine ⟨M', iteTE rfl (iteFE (fun z => a2 (eji.mp z)) ?_), q2⟩
          rw [nmE, show (1 : Int32) = iz 1 from rfl, iz_sub]
          exact q1
      · obtain ⟨M', q1, q2⟩ := fwd_l (M := M) N (s := s) (s' := r) (i := i) (j := j) (n := n) (by omega) (by omega) (by omega) (by omega) (Or.inl a1) N 0 M (by omega) (by omega) (c0 0)
        exact ⟨M', iteFE (fun z => a1 (esr.mp z)) q1, q2⟩
    obtain ⟨M', q1, q2, q3, q4⟩ := run
    refine ⟨iz n, xO X b' (cpyZ (23 + k') w w' i j n), M', br _ (b2E u5 (iteFE (by omega) (b2E v5 (iteFE (fun q => cb (bad.mp q)) (by rw [ec]))))), mm2 _ (iteFE (fun q => by have := (l0 n hn).mp q; omega) (iteFE (fun q => by have := (l0 i hi).mp q; omega) (iteFE (fun q => by have := (l0 j hj).mp q; omega) (chkE rfl (by omega) (iteFE (fun q => by have := g1.mp q; omega) (chkE rfl (by omega) (iteTE (g2.mpr (by omega)) q1))))))), ?_⟩
    refine R_row hR (s := r) (y := w') (by omega) hk' k4' v2 v5 (cpyZ_1 ..) (cpyZ_n ..) (cpyZ_fit (rowZ_fit u5) (rowZ_fit v5) (by omega)) v7 q2 q3 (fun q hq => ?_) (fun q hq => ?_)
    · rw [q4, if_neg (by omega)]
    · rw [rAt_cpy k4', q4]
      by_cases e : j ≤ q ∧ q < j + n
      · rw [if_pos e, if_pos (by omega), u8 _ (by omega), show 60 * s + (i + (q - j)) = 60 * s + i + (60 * r + q - (60 * r + j)) by omega]
      · rw [if_neg e, if_neg (by omega)]
        exact v8 q hq
