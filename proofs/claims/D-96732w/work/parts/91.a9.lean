/-! PLAIN LAW: put, taken, row. Own text, printed by mk91.py. -/
set_option maxRecDepth 100000
def keptV (k : Nat) (v : Int64) : Int64 := if k = 0 then v.toInt32.toInt8.toInt32.toInt64 else if k = 1 then v.toInt32.toInt16.toInt32.toInt64 else if k = 2 then v.toInt32.toInt64 else if k = 3 then v else (if lg_cmp v 0 = 0 then 0 else 1)
theorem kept_iz {k : Nat} (h : k ≤ 4) (v : Int64) : m_kept (iz k) v = some (keptV k v) := by
  unfold m_kept
  rcases (show k = 0 ∨ k = 1 ∨ k = 2 ∨ k = 3 ∨ k = 4 by omega) with e | e | e | e | e <;> subst e
  · rfl
  · rfl
  · rfl
  · rfl
  · refine iteFE (by decide) (iteFE (by decide) (iteFE (by decide) (iteFE (by decide) ?_)))
    show (if lg_cmp v 0 = 0 then some (0 : Int64) else some 1) = some (if lg_cmp v 0 = 0 then 0 else 1)
    split <;> rfl
theorem rPut_1 (t : Nat) (z : XO) (j : Nat) (v : Int64) : (rPut t z j v).1 = z.1 := by unfold rPut; (repeat' split) <;> rfl
theorem rPut_n (t : Nat) (z : XO) (j : Nat) (v : Int64) : (rPut t z j v).2.2.2.1 = z.2.2.2.1 := by unfold rPut; (repeat' split) <;> rfl
theorem rAt_put {k : Nat} (h : k ≤ 4) (z : XO) (j : Nat) (v : Int64) (i : Nat) : rAt (23 + k) (rPut (23 + k) z j v) i = if i = j then keptV k v else rAt (23 + k) z i := by
  rcases (show k = 0 ∨ k = 1 ∨ k = 2 ∨ k = 3 ∨ k = 4 by omega) with e | e | e | e | e <;> subst e
  · show (upd z.2.2.2.2.1 j v.toInt32.toInt8.toInt32 i).toInt64 = if i = j then v.toInt32.toInt8.toInt32.toInt64 else (z.2.2.2.2.1 i).toInt64
    unfold upd
    split <;> rfl
  · show (upd z.2.2.2.2.1 j v.toInt32.toInt16.toInt32 i).toInt64 = if i = j then v.toInt32.toInt16.toInt32.toInt64 else (z.2.2.2.2.1 i).toInt64
    unfold upd
    split <;> rfl
  · show (upd z.2.2.2.2.1 j v.toInt32 i).toInt64 = if i = j then v.toInt32.toInt64 else (z.2.2.2.2.1 i).toInt64
    unfold upd
    split <;> rfl
  · show vp_updL z.2.2.2.2.2 j v i = if i = j then v else z.2.2.2.2.2 i
    rfl
  · show (if upd z.2.2.2.2.1 j (if lg_cmp v 0 = 0 then 0 else 1) i = 0 then (0 : Int64) else 1) = if i = j then (if lg_cmp v 0 = 0 then (0 : Int64) else 1) else (if z.2.2.2.2.1 i = 0 then (0 : Int64) else 1)
    unfold upd
    by_cases c : i = j
    · rw [if_pos c, if_pos c]
      by_cases d : lg_cmp v 0 = 0
      · rw [if_pos d, if_pos d]; rfl
      · rw [if_neg d, if_neg d]; rfl
    · rw [if_neg c, if_neg c]
theorem fit8 (x : Int8) : fits .byte (.int x.toInt32) = true := by
  show (decide ((-128 : Int32) ≤ x.toInt32) && decide (x.toInt32 ≤ 127)) = true
  have h1 := x.le_toInt
  have h2 := x.toInt_lt
  rw [Bool.and_eq_true, decide_eq_true_iff, decide_eq_true_iff, Int32.le_iff_toInt_le, Int32.le_iff_toInt_le, Int8.toInt_toInt32, show (-128 : Int32).toInt = -128 from rfl, show (127 : Int32).toInt = 127 from rfl]
  omega
theorem fit16 (x : Int16) : fits .short (.int x.toInt32) = true := by
  show (decide ((-32768 : Int32) ≤ x.toInt32) && decide (x.toInt32 ≤ 32767)) = true
  have h1 := x.le_toInt
  have h2 := x.toInt_lt
  rw [Bool.and_eq_true, decide_eq_true_iff, decide_eq_true_iff, Int32.le_iff_toInt_le, Int32.le_iff_toInt_le, Int16.toInt_toInt32, show (-32768 : Int32).toInt = -32768 from rfl, show (32767 : Int32).toInt = 32767 from rfl]
  omega
theorem fitE_else {t : Nat} (h1 : t ≠ 23) (h2 : t ≠ 24) (h3 : t ≠ 27) (v : Int32) : fitE t v = true := by
  unfold fitE
  rw [if_neg h1, if_neg h2, if_neg h3]
theorem zI_fit {t : Nat} {z : XO} {i : Nat} {v : Int32} (h : ∀ j, j < z.2.2.2.1 → fitE t (z.2.2.2.2.1 j) = true) (hv : fitE t v = true) : ∀ j, j < (zI z i v).2.2.2.1 → fitE t ((zI z i v).2.2.2.2.1 j) = true := fun j hj => by
  show fitE t (upd z.2.2.2.2.1 i v j) = true
  unfold upd
  split
  · exact hv
  · exact h j hj
theorem rPut_fit {t : Nat} {z : XO} {i : Nat} {v : Int64} (h : ∀ j, j < z.2.2.2.1 → fitE t (z.2.2.2.2.1 j) = true) : ∀ j, j < (rPut t z i v).2.2.2.1 → fitE t ((rPut t z i v).2.2.2.2.1 j) = true := by
  unfold rPut
  by_cases c1 : t = 26
  · rw [if_pos c1]; exact fun j hj => h j hj
  rw [if_neg c1]
  by_cases c2 : t = 27
  · rw [if_pos c2]
    refine zI_fit h ?_
    subst c2
    split <;> decide
  rw [if_neg c2]
  by_cases c3 : t = 23
  · rw [if_pos c3]
    refine zI_fit h ?_
    subst c3
    exact fit8 _
  rw [if_neg c3]
  by_cases c4 : t = 24
  · rw [if_pos c4]
    refine zI_fit h ?_
    subst c4
    exact fit16 _
  · rw [if_neg c4]
    exact zI_fit h (fitE_else c3 c4 c2 _)
theorem R_put {X : XS} {M : MS} (h : R X M) {s k a b i : Nat} {y : XO} (hs : s < 6) (hk : ma M 41 s = k) (k4 : k ≤ 4) (ha : X.2.2.1 48 s = some a) (hy : rowZ X a (23 + k) = some (b, y)) (hi : i < y.2.2.2.1) (hn : y.2.2.2.1 ≤ 60) (v : Int64) : R (xO X b (rPut (23 + k) y i v)) (sL M (60 * s + i) (keptV k v)) := by
  have hR := h
  obtain ⟨h1, h2, h3, h4, h5, h6, h7, h8, h9⟩ := h
  obtain ⟨x, x1, x2, x3, y1, y2⟩ := rowZ_ex hy
  have ko : ∀ (c : Nat) (o : XO), X.2.2.2 c = some o → o.1 < 30 → (xO X b (rPut (23 + k) y i v)).2.2.2 c = some o := fun c o hc ho => xO_keep (t := 23 + k + 7) (fun u hu => by rw [y1] at hu; cases hu; exact y2) hc (by omega)
  have kb : ∀ (c : Nat), c ≠ b → (xO X b (rPut (23 + k) y i v)).2.2.2 c = X.2.2.2 c := fun c hc => by rw [xO23, if_neg hc]
  have row1 : rowZ (xO X b (rPut (23 + k) y i v)) a (23 + k) = some (b, rPut (23 + k) y i v) := rowZ_mk (ko a x x1 (by omega)) x2 x3 (xO_at _ _ _) (by rw [rPut_1]; exact y2) (rPut_fit (rowZ_fit hy))
  have row2 : ∀ (s' k' a' b' : Nat) (y' : XO), s' < 6 → s' ≠ s → ma M 41 s' = k' → k' ≤ 4 → X.2.2.1 48 s' = some a' → rowZ X a' (23 + k') = some (b', y') → rowZ (xO X b (rPut (23 + k) y i v)) a' (23 + k') = some (b', y') := by
    intro s' k' a' b' y' g1 g2 g3 g4 g5 g6
    obtain ⟨x', u1, u2, u3, u4, u5⟩ := rowZ_ex g6
    exact rowZ_mk (ko a' x' u1 (by omega)) u2 u3 (by rw [kb b' (h9.2 s' s k' k a' a b' b y' y g1 hs g2 g3 g4 hk k4 g5 ha g6 hy)]; exact u4) u5 (rowZ_fit g6)
  refine ⟨h1.cg rfl rfl rfl rfl rfl rfl (fun c o g t => ko c o g (by omega)) rfl rfl rfl rfl rfl rfl rfl, h2.cg rfl rfl rfl (fun c o g t => ko c o g (by omega)) (Int.le_refl _) rfl rfl rfl, h3.cg rfl rfl rfl rfl, h4.cg rfl (fun c o g t => ko c o g (by omega)) rfl rfl rfl rfl rfl rfl, h5.cg rfl rfl rfl rfl rfl rfl (Int.le_refl _) rfl rfl rfl, h6.cg rfl rfl rfl rfl rfl rfl rfl rfl rfl (Int.le_refl _) rfl rfl rfl rfl rfl rfl, h7.cg rfl rfl rfl rfl, h8.cg rfl rfl (fun c o g t => ko c o g (by omega)) rfl rfl, fun s' hs' => ?_, ?_⟩
  · by_cases c : s' = s
    · subst c
      obtain ⟨a0, b0, y0, q1, q2, q3, q4, q5⟩ := (h9.1 s' hs').row hk k4
      rw [ha] at q1; cases q1
      rw [hy] at q2; cases q2
      refine Or.inr (Or.inr ⟨k, a, b, rPut (23 + k) y i v, k4, hk, ha, row1, by rw [rPut_n]; exact q3, by rw [rPut_n]; exact q4, fun j hj => ?_⟩)
      rw [rPut_n] at hj
      rw [rAt_put k4, sL22]
      by_cases cj : j = i
      · rw [if_pos cj, if_pos (by omega)]
      · rw [if_neg cj, if_neg (by omega), q5 j hj]
    · rcases h9.1 s' hs' with q | q | ⟨k', a', b', y', q1, q2, q3, q4, q5, q6, q7⟩
      · exact Or.inl q
      · exact Or.inr (Or.inl q)
      · refine Or.inr (Or.inr ⟨k', a', b', y', q1, q2, q3, row2 s' k' a' b' y' hs' c q2 q1 q3 q4, q5, q6, fun j hj => ?_⟩)
        rw [sL22, if_neg (by omega), q7 j hj]
  · intro s1 s2 k1 k2 a1 a2 b1 b2 z1 z2 g1 g2 g3 g4 g5 g6 g7 g8 g9 g10 g11
    have old : ∀ (s' k' a' b' : Nat) (z' : XO), s' < 6 → ma M 41 s' = k' → k' ≤ 4 → X.2.2.1 48 s' = some a' → rowZ (xO X b (rPut (23 + k) y i v)) a' (23 + k') = some (b', z') → ∃ z'', rowZ X a' (23 + k') = some (b', z'') := by
      intro s' k' a' b' z' u1 u2 u3 u4 u5
      obtain ⟨a0, b0, y0, q1, q2, -⟩ := (h9.1 s' u1).row u2 u3
      rw [u4] at q1; cases q1
      by_cases c : s' = s
      · subst c
        rw [ha] at u4; cases u4
        have ek : k' = k := by omega
        subst ek
        rw [row1] at u5; cases u5
        exact ⟨y, hy⟩
      · rw [row2 s' k' a' b0 y0 u1 c u2 u3 u4 q2] at u5
        cases u5
        exact ⟨_, q2⟩
    obtain ⟨z1', e1⟩ := old s1 k1 a1 b1 z1 g1 g4 g5 g8 g10
    obtain ⟨z2', e2⟩ := old s2 k2 a2 b2 z2 g2 g6 g7 g9 g11
    exact h9.2 s1 s2 k1 k2 a1 a2 b1 b2 z1' z2' g1 g2 g3 g4 g5 g6 g7 g8 g9 e1 e2
theorem law_put {X : XS} {M : MS} (h : R X M) (p w : Int32) (v : Int64) : same (x_put X p w v) (m_put M p w v) := by
  have hR := h
  obtain ⟨z, hz, rfl⟩ := izE p
  obtain ⟨i, hi, rfl⟩ := izE w
  obtain ⟨h1, h2, h3, h4, h5, h6, h7, h8, h9⟩ := h
  unfold x_put m_put
  by_cases c : ¬ (0 ≤ z ∧ z ≤ 5)
  · exact ⟨_, _, _, bindE (shelfF hz c) (iteTE rfl rfl), bindE (shelfF hz c) (iteTE rfl rfl), hR⟩
  replace c := Decidable.not_not.mp c
  have e1 := h9.1 z.toNat (by omega)
  have ez : (iz z).toNatClampNeg = z.toNat := iz_clamp (by omega)
  have r41 := ma_R M 41 z.toNat
  by_cases d : ma M 41 z.toNat = -1
  · refine ⟨iz (-11), X, M, bindE (shelfT c) (iteFE b2iT (chkE rfl (by omega) (onlN ?_ rfl))), bindE (shelfT c) (iteFE b2iT (chkE rfl (by omega) (iteTE ?_ rfl))), hR⟩
    · rw [ez]
      rcases e1 with ⟨-, q⟩ | ⟨b, q, -⟩ | ⟨k, a, b, y, q1, q2, -⟩
      · exact q
      · omega
      · omega
    · rw [ez, ma_eq M 41, d]; rfl
  have d' : ¬ M.2.1 41 (iz z).toNatClampNeg = -1 := by rw [ez, ma_eq M 41, show (-1 : Int32) = iz (-1) from rfl, iz_eq (by omega)]; exact d
  by_cases d2 : 5 ≤ ma M 41 z.toNat
  · obtain ⟨b, k, a, o, q1, q2, q3, q4, q5, q6, q7, q8, q9⟩ := e1.body h8 d2
    refine ⟨iz (-12), X, M, bindE (shelfT c) (iteFE b2iT (chkE rfl (by omega) (onlS (by rw [ez]; exact q4) (bindE q5 (iteFE (by omega) (iteFE (by omega) (iteFE (by omega) (iteFE (by omega) (iteFE (by omega) (iteTE ?_ rfl)))))))))), bindE (shelfT c) (iteFE b2iT (chkE rfl (by omega) (iteFE d' (bindE (isRow_iz c) (iteTE ?_ rfl))))), hR⟩
    · simp only [List.mem_cons, List.not_mem_nil]; omega
    · rw [decide_eq_false (by omega)]; rfl
  obtain ⟨k, k4, hk⟩ := e1.ge.2 (by omega) (by have := e1.ge.1; omega)
  obtain ⟨a, b, y, g1, g2, g3, g4, g5⟩ := e1.row hk k4
  obtain ⟨x, x1, x2, -⟩ := rowZ_ex g2
  have e41 : M.2.1 41 (iz z).toNatClampNeg = iz k := by rw [ez, ma_eq M 41, hk]
  have w1 : m_within (iz i) 0 ((M.2.1 42 (iz z).toNatClampNeg) - 1) = some (decide (0 ≤ i ∧ i ≤ (y.2.2.2.1 : Int) - 1)) := by
    rw [ez, ma_eq M 42, g3, show (0 : Int32) = iz 0 from rfl, show (1 : Int32) = iz 1 from rfl, iz_sub, m_within_iz (by omega)]
  by_cases ci : 0 ≤ i ∧ i ≤ (y.2.2.2.1 : Int) - 1
  · rw [decide_eq_true ci] at w1
    have ei : (iz i).toNatClampNeg = i.toNat := iz_clamp (by omega)
    have ea : (60 * iz z) + iz i = iz (60 * z + i) := by rw [show (60 : Int32) = iz 60 from rfl, iz_mul, iz_add]
    have n1 : ¬ ((iz i) < 0 ∨ y.2.2.2.1 ≤ (iz i).toNatClampNeg) := by
      rw [ei, show (0 : Int32) = iz 0 from rfl, iz_lt (by omega)]; omega
    have fin := R_put hR (by omega) hk k4 g1 g2 (i := i.toNat) (by omega) g4 v
    refine ⟨1, xO X b (rPut (23 + k) y i.toNat v), sL M (60 * z.toNat + i.toNat) (keptV k v), bindE (shelfT c) (iteFE b2iT (chkE rfl (by omega) (onlS (by rw [ez]; exact g1) (bindE x1 ?_)))), bindE (shelfT c) (iteFE b2iT (chkE rfl (by omega) (iteFE d' (bindE (isRow_iz c) (iteFE (by rw [decide_eq_true (by omega)]; exact b2iT) (chkE rfl (by omega) (bindE w1 (iteFE b2iT (chkE rfl (by omega) (bindE (by rw [e41]; exact kept_iz k4 v) (chkE ea (by omega) ?_))))))))))), fin⟩
    · rcases (show k = 0 ∨ k = 1 ∨ k = 2 ∨ k = 3 ∨ k = 4 by omega) with k0 | k0 | k0 | k0 | k0 <;> subst k0
      · exact iteTE x2 (b2E g2 (iteFE n1 (by rw [ei, nm_eq]; exact iteFE (show ¬ (1 : Int32) = 0 by decide) rfl)))
      · exact iteFE (by omega) (iteTE x2 (b2E g2 (iteFE n1 (by rw [ei, nm_eq]; exact iteFE (show ¬ (1 : Int32) = 0 by decide) rfl))))
      · exact iteFE (by omega) (iteFE (by omega) (iteTE x2 (b2E g2 (iteFE n1 (by rw [ei, nm_eq]; exact iteFE (show ¬ (1 : Int32) = 0 by decide) rfl)))))
      · exact iteFE (by omega) (iteFE (by omega) (iteFE (by omega) (iteTE x2 (b2E g2 (iteFE n1 (by rw [ei, nm_eq]; exact iteFE (show ¬ (1 : Int32) = 0 by decide) rfl))))))
      · exact iteFE (by omega) (iteFE (by omega) (iteFE (by omega) (iteFE (by omega) (iteTE x2 (b2E g2 (iteFE n1 (by rw [ei, nm_eq]; exact iteFE (show ¬ (1 : Int32) = 0 by decide) rfl)))))))
    · rw [ea, iz_clamp (by omega), show (60 * z + i).toNat = 60 * z.toNat + i.toNat by omega]
      rfl
  · rw [decide_eq_false ci] at w1
    refine ⟨iz (-13), X, M, bindE (shelfT c) (iteFE b2iT (chkE rfl (by omega) (onlS (by rw [ez]; exact g1) (bindE x1 ?_)))), bindE (shelfT c) (iteFE b2iT (chkE rfl (by omega) (iteFE d' (bindE (isRow_iz c) (iteFE (by rw [decide_eq_true (by omega)]; exact b2iT) (chkE rfl (by omega) (bindE w1 (iteTE b2iF rfl)))))))), hR⟩
    have n1 : (iz i) < 0 ∨ y.2.2.2.1 ≤ (iz i).toNatClampNeg := by
      by_cases n : i < 0
      · left; rw [show (0 : Int32) = iz 0 from rfl, iz_lt (by omega)]; exact n
      · right; rw [iz_clamp (by omega)]; omega
    have n2 : y.2.2.2.1 < 2147483648 := by omega
    rcases (show k = 0 ∨ k = 1 ∨ k = 2 ∨ k = 3 ∨ k = 4 by omega) with k0 | k0 | k0 | k0 | k0 <;> subst k0
    · exact iteTE x2 (b2E g2 (iteTE n1 (iteTE n2 rfl)))
    · exact iteFE (by omega) (iteTE x2 (b2E g2 (iteTE n1 (iteTE n2 rfl))))
    · exact iteFE (by omega) (iteFE (by omega) (iteTE x2 (b2E g2 (iteTE n1 (iteTE n2 rfl)))))
    · exact iteFE (by omega) (iteFE (by omega) (iteFE (by omega) (iteTE x2 (b2E g2 (iteTE n1 (iteTE n2 rfl))))))
    · exact iteFE (by omega) (iteFE (by omega) (iteFE (by omega) (iteFE (by omega) (iteTE x2 (b2E g2 (iteTE n1 (iteTE n2 rfl)))))))
/-! kinds -/
theorem bbE (P : Bool) : (if b2i P = 0 then some false else some true) = some P := by cases P <;> rfl
theorem U_base {G : Option XO} {o : XO} {K : Option Int32} {p c : Int} (hp : -2147483648 ≤ p ∧ p ≤ 2147483647) (hc : 0 ≤ c ∧ c ≤ 7) (hG : G = some o) (hK : K = some (iz c)) : (if iz p = 0 then some true else G.bind fun _ => K.bind fun v4 => if iz p = v4 then some true else some false) = some (decide (p = 0 ∨ p = c)) := by
  have e0 : (iz p = 0) ↔ p = 0 := by rw [show (0 : Int32) = iz 0 from rfl, iz_eq (by omega)]
  have ec : (iz p = iz c) ↔ p = c := iz_eq (by omega)
  by_cases q : p = 0
  · rw [if_pos (e0.mpr q), decide_eq_true (Or.inl q)]
  · rw [if_neg (fun h => q (e0.mp h)), hG, hK]
    show (if iz p = iz c then some true else some false) = _
    by_cases q' : p = c
    · rw [if_pos (ec.mpr q'), decide_eq_true (Or.inr q')]
    · rw [if_neg (fun h => q' (ec.mp h)), decide_eq_false (by omega)]
theorem U_step {G : Option XO} {o : XO} {K : Option Bool} {p c : Int} {lc : Int32} {P : Prop} [Decidable P] (hp : -2147483648 ≤ p ∧ p ≤ 2147483647) (hc : 0 ≤ c ∧ c ≤ 7) (hl : lc = iz c) (hG : G = some o) (hK : K = some (decide P)) : (if iz p = lc then some true else G.bind fun _ => K.bind fun v4 => if b2i v4 = 0 then some false else some true) = some (decide (p = c ∨ P)) := by
  subst hl
  have ec : (iz p = iz c) ↔ p = c := iz_eq (by omega)
  by_cases q : p = c
  · rw [if_pos (ec.mpr q), decide_eq_true (Or.inl q)]
  · rw [if_neg (fun h => q (ec.mp h)), hG, hK]
    show (if b2i (decide P) = 0 then some false else some true) = _
    rw [bbE]
    congr 1
    simp only [q, false_or]
theorem V_base (N : Nat) (T : MS) {p : Int} (hp : -2147483648 ≤ p ∧ p ≤ 2147483647) (l : Int32) (n : Nat) : m_taken_b61 N T (iz p) l (n + 1) (iz 0) = some (if p = 0 then l else iz (-12)) := by
  have ec : (iz 0 = iz p) ↔ p = 0 := by rw [iz_eq (by omega)]; omega
  rw [m_taken_b61]
  unfold m_taken_b82
  by_cases q : p = 0
  · rw [if_pos q]
    exact iteTE (ec.mpr q) (iteTE (ec.mpr q) rfl)
  · rw [if_neg q]
    exact iteFE (fun h => q (ec.mp h)) (iteTE (by decide) (iteFE (fun h => q (ec.mp h)) rfl))
theorem V_step (N : Nat) (T : MS) {p k k' : Int} {P : Prop} [Decidable P] (hp : -2147483648 ≤ p ∧ p ≤ 2147483647) (hk : 1 ≤ k ∧ k ≤ 7) {l : Int32} {n : Nat} (ha : m_above (iz k) = some (iz k')) (ih : m_taken_b61 N T (iz p) l n (iz k') = some (if P then l else iz (-12))) : m_taken_b61 N T (iz p) l (n + 1) (iz k) = some (if p = k ∨ P then l else iz (-12)) := by
  have ec : (iz k = iz p) ↔ p = k := by rw [iz_eq (by omega)]; omega
  rw [m_taken_b61]
  unfold m_taken_b82
  by_cases q : p = k
  · rw [if_pos (Or.inl q)]
    exact iteTE (ec.mpr q) (iteTE (ec.mpr q) rfl)
  · refine iteFE (fun h => q (ec.mp h)) (iteFE (by rw [show (0 : Int32) = iz 0 from rfl, iz_le (by omega)]; omega) (bindE ha ?_))
    rw [ih]
    simp only [q, false_or]
theorem u14_14 {T : XS} {a : Nat} {o : XO} {p : Int} (hp : -2147483648 ≤ p ∧ p ≤ 2147483647) (h : getO T a 14 = some o) : k14_14_isUnder T a (iz p) = some (decide (p = 0 ∨ p = 0)) := by
  unfold k14_14_isUnder
  exact U_base hp (by omega) h rfl
theorem u15_14 {T : XS} {a : Nat} {o : XO} {p : Int} (hp : -2147483648 ≤ p ∧ p ≤ 2147483647) (h : getO T a 15 = some o) : k15_14_isUnder T a (iz p) = some (decide (p = 0 ∨ p = 1)) := by
  unfold k15_14_isUnder
  exact U_base hp (by omega) h rfl
theorem u15_15 {T : XS} {a : Nat} {o : XO} {p : Int} (hp : -2147483648 ≤ p ∧ p ≤ 2147483647) (h : getO T a 15 = some o) : k15_15_isUnder T a (iz p) = some (decide (p = 1 ∨ p = 0 ∨ p = 1)) := by
  unfold k15_15_isUnder
  exact U_step hp (by omega) rfl h (u15_14 hp h)
theorem u16_14 {T : XS} {a : Nat} {o : XO} {p : Int} (hp : -2147483648 ≤ p ∧ p ≤ 2147483647) (h : getO T a 16 = some o) : k16_14_isUnder T a (iz p) = some (decide (p = 0 ∨ p = 2)) := by
  unfold k16_14_isUnder
  exact U_base hp (by omega) h rfl
theorem u16_16 {T : XS} {a : Nat} {o : XO} {p : Int} (hp : -2147483648 ≤ p ∧ p ≤ 2147483647) (h : getO T a 16 = some o) : k16_16_isUnder T a (iz p) = some (decide (p = 2 ∨ p = 0 ∨ p = 2)) := by
  unfold k16_16_isUnder
  exact U_step hp (by omega) rfl h (u16_14 hp h)
theorem u17_14 {T : XS} {a : Nat} {o : XO} {p : Int} (hp : -2147483648 ≤ p ∧ p ≤ 2147483647) (h : getO T a 17 = some o) : k17_14_isUnder T a (iz p) = some (decide (p = 0 ∨ p = 3)) := by
  unfold k17_14_isUnder
  exact U_base hp (by omega) h rfl
theorem u17_16 {T : XS} {a : Nat} {o : XO} {p : Int} (hp : -2147483648 ≤ p ∧ p ≤ 2147483647) (h : getO T a 17 = some o) : k17_16_isUnder T a (iz p) = some (decide (p = 2 ∨ p = 0 ∨ p = 3)) := by
  unfold k17_16_isUnder
  exact U_step hp (by omega) rfl h (u17_14 hp h)
theorem u17_17 {T : XS} {a : Nat} {o : XO} {p : Int} (hp : -2147483648 ≤ p ∧ p ≤ 2147483647) (h : getO T a 17 = some o) : k17_17_isUnder T a (iz p) = some (decide (p = 3 ∨ p = 2 ∨ p = 0 ∨ p = 3)) := by
  unfold k17_17_isUnder
  exact U_step hp (by omega) rfl h (u17_16 hp h)
theorem u18_14 {T : XS} {a : Nat} {o : XO} {p : Int} (hp : -2147483648 ≤ p ∧ p ≤ 2147483647) (h : getO T a 18 = some o) : k18_14_isUnder T a (iz p) = some (decide (p = 0 ∨ p = 4)) := by
  unfold k18_14_isUnder
  exact U_base hp (by omega) h rfl
theorem u18_15 {T : XS} {a : Nat} {o : XO} {p : Int} (hp : -2147483648 ≤ p ∧ p ≤ 2147483647) (h : getO T a 18 = some o) : k18_15_isUnder T a (iz p) = some (decide (p = 1 ∨ p = 0 ∨ p = 4)) := by
  unfold k18_15_isUnder
  exact U_step hp (by omega) rfl h (u18_14 hp h)
theorem u18_18 {T : XS} {a : Nat} {o : XO} {p : Int} (hp : -2147483648 ≤ p ∧ p ≤ 2147483647) (h : getO T a 18 = some o) : k18_18_isUnder T a (iz p) = some (decide (p = 4 ∨ p = 1 ∨ p = 0 ∨ p = 4)) := by
  unfold k18_18_isUnder
  exact U_step hp (by omega) rfl h (u18_15 hp h)
theorem u19_14 {T : XS} {a : Nat} {o : XO} {p : Int} (hp : -2147483648 ≤ p ∧ p ≤ 2147483647) (h : getO T a 19 = some o) : k19_14_isUnder T a (iz p) = some (decide (p = 0 ∨ p = 5)) := by
  unfold k19_14_isUnder
  exact U_base hp (by omega) h rfl
theorem u19_16 {T : XS} {a : Nat} {o : XO} {p : Int} (hp : -2147483648 ≤ p ∧ p ≤ 2147483647) (h : getO T a 19 = some o) : k19_16_isUnder T a (iz p) = some (decide (p = 2 ∨ p = 0 ∨ p = 5)) := by
  unfold k19_16_isUnder
  exact U_step hp (by omega) rfl h (u19_14 hp h)
theorem u19_17 {T : XS} {a : Nat} {o : XO} {p : Int} (hp : -2147483648 ≤ p ∧ p ≤ 2147483647) (h : getO T a 19 = some o) : k19_17_isUnder T a (iz p) = some (decide (p = 3 ∨ p = 2 ∨ p = 0 ∨ p = 5)) := by
  unfold k19_17_isUnder
  exact U_step hp (by omega) rfl h (u19_16 hp h)
theorem u20_14 {T : XS} {a : Nat} {o : XO} {p : Int} (hp : -2147483648 ≤ p ∧ p ≤ 2147483647) (h : getO T a 20 = some o) : k20_14_isUnder T a (iz p) = some (decide (p = 0 ∨ p = 6)) := by
  unfold k20_14_isUnder
  exact U_base hp (by omega) h rfl
theorem u21_14 {T : XS} {a : Nat} {o : XO} {p : Int} (hp : -2147483648 ≤ p ∧ p ≤ 2147483647) (h : getO T a 21 = some o) : k21_14_isUnder T a (iz p) = some (decide (p = 0 ∨ p = 7)) := by
  unfold k21_14_isUnder
  exact U_base hp (by omega) h rfl
theorem u21_15 {T : XS} {a : Nat} {o : XO} {p : Int} (hp : -2147483648 ≤ p ∧ p ≤ 2147483647) (h : getO T a 21 = some o) : k21_15_isUnder T a (iz p) = some (decide (p = 1 ∨ p = 0 ∨ p = 7)) := by
  unfold k21_15_isUnder
  exact U_step hp (by omega) rfl h (u21_14 hp h)
theorem u21_18 {T : XS} {a : Nat} {o : XO} {p : Int} (hp : -2147483648 ≤ p ∧ p ≤ 2147483647) (h : getO T a 21 = some o) : k21_18_isUnder T a (iz p) = some (decide (p = 4 ∨ p = 1 ∨ p = 0 ∨ p = 7)) := by
  unfold k21_18_isUnder
  exact U_step hp (by omega) rfl h (u21_15 hp h)
theorem law_taken {X : XS} {M : MS} (h : R X M) {N : Nat} (hN : 100 ≤ N) (p w : Int32) : sameR (x_taken X p w) (m_taken N M p w) := by
  obtain ⟨N, rfl⟩ : ∃ n, N = n + 6 := ⟨N - 6, by omega⟩
  obtain ⟨z, hz, rfl⟩ := izE p
  obtain ⟨p, hp, rfl⟩ := izE w
  obtain ⟨h1, h2, h3, h4, h5, h6, h7, h8, h9⟩ := h
  unfold x_taken m_taken
  by_cases c : ¬ (0 ≤ z ∧ z ≤ 5)
  · exact ⟨_, bindE (shelfF hz c) (iteTE rfl rfl), bindE (shelfF hz c) (iteTE rfl rfl)⟩
  replace c := Decidable.not_not.mp c
  have w1 : x_in (iz p) 0 7 = some (decide (0 ≤ p ∧ p ≤ 7)) := by rw [show (0 : Int32) = iz 0 from rfl, show (7 : Int32) = iz 7 from rfl, x_in_iz (by omega)]
  have w2 : m_within (iz p) 0 7 = some (decide (0 ≤ p ∧ p ≤ 7)) := w1
  by_cases cp : ¬ (0 ≤ p ∧ p ≤ 7)
  · rw [decide_eq_false cp] at w1 w2
    exact ⟨_, bindE (shelfT c) (iteFE b2iT (bindE w1 (iteTE rfl rfl))), bindE (shelfT c) (iteFE b2iT (bindE w2 (iteTE rfl rfl)))⟩
  replace cp := Decidable.not_not.mp cp
  rw [decide_eq_true cp] at w1 w2
  have e1 := h9.1 z.toNat (by omega)
  have ez : (iz z).toNatClampNeg = z.toNat := iz_clamp (by omega)
  have r41 := ma_R M 41 z.toNat
  by_cases d : ma M 41 z.toNat = -1
  · refine ⟨iz (-11), bindE (shelfT c) (iteFE b2iT (bindE w1 (iteFE b2iT (chkE rfl (by omega) (onlN ?_ rfl))))), bindE (shelfT c) (iteFE b2iT (bindE w2 (iteFE b2iT (chkE rfl (by omega) (iteTE ?_ rfl)))))⟩
    · rw [ez]
      rcases e1 with ⟨-, q⟩ | ⟨b, q, -⟩ | ⟨k, a, b, y, q1, q2, -⟩
      · exact q
      · omega
      · omega
    · rw [ez, ma_eq M 41, d]; rfl
  have d' : ¬ M.2.1 41 (iz z).toNatClampNeg = -1 := by rw [ez, ma_eq M 41, show (-1 : Int32) = iz (-1) from rfl, iz_eq (by omega)]; exact d
  by_cases d2 : ¬ 5 ≤ ma M 41 z.toNat
  · obtain ⟨k, k4, hk⟩ := e1.ge.2 (by omega) (by have := e1.ge.1; omega)
    obtain ⟨a, b, y, g1, g2, g3, g4, g5⟩ := e1.row hk k4
    obtain ⟨x, x1, x2, -⟩ := rowZ_ex g2
    refine ⟨iz (-12), bindE (shelfT c) (iteFE b2iT (bindE w1 (iteFE b2iT (chkE rfl (by omega) (onlS (by rw [ez]; exact g1) (bindE x1 (iteFE (by omega) (iteFE (by omega) (iteFE (by omega) (iteFE (by omega) (iteFE (by omega) (iteFE (by omega) (iteFE (by omega) (iteFE (by omega) (iteTE ?_ rfl))))))))))))))), bindE (shelfT c) (iteFE b2iT (bindE w2 (iteFE b2iT (chkE rfl (by omega) (iteFE d' (bindE (isRow_iz c) (iteFE ?_ rfl)))))))⟩
    · simp only [List.mem_cons, List.not_mem_nil]; omega
    · rw [decide_eq_true (by omega)]; exact b2iT
  replace d2 := Decidable.not_not.mp d2
  obtain ⟨b, k, a, o, q1, q2, q3, q4, q5, q6, q7, q8, q9⟩ := e1.body h8 d2
  have eb : M.2.1 41 (iz z).toNatClampNeg - 10 = iz b := by rw [ez, ma_eq M 41, q1, show (10 : Int32) = iz 10 from rfl, iz_sub, show (10 : Int) + b - 10 = b by omega]
  have ek : M.2.1 38 (M.2.1 41 (iz z).toNatClampNeg - 10).toNatClampNeg = iz k := by rw [eb, iz_clampN (by omega), ma_eq M 38, q8]
  have eR : decide (0 ≤ ma M 41 z.toNat ∧ ma M 41 z.toNat ≤ 4) = false := decide_eq_false (by omega)
  by_cases k0 : k = 0
  · subst k0
    have hg := getO_eq q5 q6
    refine ⟨if p = 0 then iz 0 else iz (-12), bindE (shelfT c) (iteFE b2iT (bindE w1 (iteFE b2iT (chkE rfl (by omega) (onlS (by rw [ez]; exact q4) (bindE q5 (iteTE q6 (bindE hg (bindE (u14_14 hp hg) ?_))))))))), bindE (shelfT c) (iteFE b2iT (bindE w2 (iteFE b2iT (chkE rfl (by omega) (iteFE d' (bindE (isRow_iz c) (iteTE (by rw [eR]; rfl) (chkE rfl (by omega) (chkE eb (by omega) ?_)))))))))⟩
    · by_cases u : p = 0
      · rw [if_pos u, decide_eq_true (by omega)]; exact iteFE b2iT (bindE hg rfl)
      · rw [if_neg u, decide_eq_false (by omega)]; exact iteTE rfl rfl
    · show m_taken_b61 (N + 6) M (iz p) (M.2.1 38 _) (N + 6) (M.2.1 38 _) = _
      rw [ek]
      exact V_base _ _ hp _ _
  by_cases k1 : k = 1
  · subst k1
    have hg := getO_eq q5 q6
    refine ⟨if p = 1 ∨ p = 0 then iz 1 else iz (-12), bindE (shelfT c) (iteFE b2iT (bindE w1 (iteFE b2iT (chkE rfl (by omega) (onlS (by rw [ez]; exact q4) (bindE q5 (iteFE (by omega) (iteTE q6 (bindE hg (bindE (u15_15 hp hg) ?_)))))))))), bindE (shelfT c) (iteFE b2iT (bindE w2 (iteFE b2iT (chkE rfl (by omega) (iteFE d' (bindE (isRow_iz c) (iteTE (by rw [eR]; rfl) (chkE rfl (by omega) (chkE eb (by omega) ?_)))))))))⟩
    · by_cases u : p = 1 ∨ p = 0
      · rw [if_pos u, decide_eq_true (by omega)]; exact iteFE b2iT (bindE hg rfl)
      · rw [if_neg u, decide_eq_false (by omega)]; exact iteTE rfl rfl
    · show m_taken_b61 (N + 6) M (iz p) (M.2.1 38 _) (N + 6) (M.2.1 38 _) = _
      rw [ek]
      exact V_step (k := 1) (k' := 0) _ _ hp (by omega) rfl (V_base _ _ hp _ _)
  by_cases k2 : k = 2
  · subst k2
    have hg := getO_eq q5 q6
    refine ⟨if p = 2 ∨ p = 0 then iz 2 else iz (-12), bindE (shelfT c) (iteFE b2iT (bindE w1 (iteFE b2iT (chkE rfl (by omega) (onlS (by rw [ez]; exact q4) (bindE q5 (iteFE (by omega) (iteFE (by omega) (iteTE q6 (bindE hg (bindE (u16_16 hp hg) ?_))))))))))), bindE (shelfT c) (iteFE b2iT (bindE w2 (iteFE b2iT (chkE rfl (by omega) (iteFE d' (bindE (isRow_iz c) (iteTE (by rw [eR]; rfl) (chkE rfl (by omega) (chkE eb (by omega) ?_)))))))))⟩
    · by_cases u : p = 2 ∨ p = 0
      · rw [if_pos u, decide_eq_true (by omega)]; exact iteFE b2iT (bindE hg rfl)
      · rw [if_neg u, decide_eq_false (by omega)]; exact iteTE rfl rfl
    · show m_taken_b61 (N + 6) M (iz p) (M.2.1 38 _) (N + 6) (M.2.1 38 _) = _
      rw [ek]
      exact V_step (k := 2) (k' := 0) _ _ hp (by omega) rfl (V_base _ _ hp _ _)
  by_cases k3 : k = 3
  · subst k3
    have hg := getO_eq q5 q6
    refine ⟨if p = 3 ∨ p = 2 ∨ p = 0 then iz 3 else iz (-12), bindE (shelfT c) (iteFE b2iT (bindE w1 (iteFE b2iT (chkE rfl (by omega) (onlS (by rw [ez]; exact q4) (bindE q5 (iteFE (by omega) (iteFE (by omega) (iteFE (by omega) (iteTE q6 (bindE hg (bindE (u17_17 hp hg) ?_)))))))))))), bindE (shelfT c) (iteFE b2iT (bindE w2 (iteFE b2iT (chkE rfl (by omega) (iteFE d' (bindE (isRow_iz c) (iteTE (by rw [eR]; rfl) (chkE rfl (by omega) (chkE eb (by omega) ?_)))))))))⟩
    · by_cases u : p = 3 ∨ p = 2 ∨ p = 0
      · rw [if_pos u, decide_eq_true (by omega)]; exact iteFE b2iT (bindE hg rfl)
      · rw [if_neg u, decide_eq_false (by omega)]; exact iteTE rfl rfl
    · show m_taken_b61 (N + 6) M (iz p) (M.2.1 38 _) (N + 6) (M.2.1 38 _) = _
      rw [ek]
      exact V_step (k := 3) (k' := 2) _ _ hp (by omega) rfl (V_step (k := 2) (k' := 0) _ _ hp (by omega) rfl (V_base _ _ hp _ _))
  by_cases k4 : k = 4
  · subst k4
    have hg := getO_eq q5 q6
    refine ⟨if p = 4 ∨ p = 1 ∨ p = 0 then iz 4 else iz (-12), bindE (shelfT c) (iteFE b2iT (bindE w1 (iteFE b2iT (chkE rfl (by omega) (onlS (by rw [ez]; exact q4) (bindE q5 (iteFE (by omega) (iteFE (by omega) (iteFE (by omega) (iteFE (by omega) (iteTE q6 (bindE hg (bindE (u18_18 hp hg) ?_))))))))))))), bindE (shelfT c) (iteFE b2iT (bindE w2 (iteFE b2iT (chkE rfl (by omega) (iteFE d' (bindE (isRow_iz c) (iteTE (by rw [eR]; rfl) (chkE rfl (by omega) (chkE eb (by omega) ?_)))))))))⟩
    · by_cases u : p = 4 ∨ p = 1 ∨ p = 0
      · rw [if_pos u, decide_eq_true (by omega)]; exact iteFE b2iT (bindE hg rfl)
      · rw [if_neg u, decide_eq_false (by omega)]; exact iteTE rfl rfl
    · show m_taken_b61 (N + 6) M (iz p) (M.2.1 38 _) (N + 6) (M.2.1 38 _) = _
      rw [ek]
      exact V_step (k := 4) (k' := 1) _ _ hp (by omega) rfl (V_step (k := 1) (k' := 0) _ _ hp (by omega) rfl (V_base _ _ hp _ _))
  by_cases k5 : k = 5
  · subst k5
    have hg := getO_eq q5 q6
    refine ⟨if p = 5 ∨ p = 3 ∨ p = 2 ∨ p = 0 then iz 5 else iz (-12), bindE (shelfT c) (iteFE b2iT (bindE w1 (iteFE b2iT (chkE rfl (by omega) (onlS (by rw [ez]; exact q4) (bindE q5 (iteFE (by omega) (iteFE (by omega) (iteFE (by omega) (iteFE (by omega) (iteFE (by omega) (iteTE q6 (bindE hg (bindE (u19_17 hp hg) ?_)))))))))))))), bindE (shelfT c) (iteFE b2iT (bindE w2 (iteFE b2iT (chkE rfl (by omega) (iteFE d' (bindE (isRow_iz c) (iteTE (by rw [eR]; rfl) (chkE rfl (by omega) (chkE eb (by omega) ?_)))))))))⟩
    · by_cases u : p = 5 ∨ p = 3 ∨ p = 2 ∨ p = 0
      · rw [if_pos u, decide_eq_true (by omega)]; exact iteFE b2iT (bindE hg rfl)
      · rw [if_neg u, decide_eq_false (by omega)]; exact iteTE rfl rfl
    · show m_taken_b61 (N + 6) M (iz p) (M.2.1 38 _) (N + 6) (M.2.1 38 _) = _
      rw [ek]
      exact V_step (k := 5) (k' := 3) _ _ hp (by omega) rfl (V_step (k := 3) (k' := 2) _ _ hp (by omega) rfl (V_step (k := 2) (k' := 0) _ _ hp (by omega) rfl (V_base _ _ hp _ _)))
  by_cases k6 : k = 6
  · subst k6
    have hg := getO_eq q5 q6
    refine ⟨if p = 6 ∨ p = 0 then iz 6 else iz (-12), bindE (shelfT c) (iteFE b2iT (bindE w1 (iteFE b2iT (chkE rfl (by omega) (onlS (by rw [ez]; exact q4) (bindE q5 (iteFE (by omega) (iteFE (by omega) (iteFE (by omega) (iteFE (by omega) (iteFE (by omega) (iteFE (by omega) (iteTE q6 (bindE hg (bindE (u20_14 hp hg) ?_))))))))))))))), bindE (shelfT c) (iteFE b2iT (bindE w2 (iteFE b2iT (chkE rfl (by omega) (iteFE d' (bindE (isRow_iz c) (iteTE (by rw [eR]; rfl) (chkE rfl (by omega) (chkE eb (by omega) ?_)))))))))⟩
    · by_cases u : p = 6 ∨ p = 0
      · rw [if_pos u, decide_eq_true (by omega)]; exact iteFE b2iT (bindE hg rfl)
      · rw [if_neg u, decide_eq_false (by omega)]; exact iteTE rfl rfl
    · show m_taken_b61 (N + 6) M (iz p) (M.2.1 38 _) (N + 6) (M.2.1 38 _) = _
      rw [ek]
      exact V_step (k := 6) (k' := 0) _ _ hp (by omega) rfl (V_base _ _ hp _ _)
  obtain rfl : k = 7 := by omega
  have hg := getO_eq q5 q6
  refine ⟨if p = 7 ∨ p = 4 ∨ p = 1 ∨ p = 0 then iz 7 else iz (-12), bindE (shelfT c) (iteFE b2iT (bindE w1 (iteFE b2iT (chkE rfl (by omega) (onlS (by rw [ez]; exact q4) (bindE q5 (iteFE (by omega) (iteFE (by omega) (iteFE (by omega) (iteFE (by omega) (iteFE (by omega) (iteFE (by omega) (iteFE (by omega) (iteTE q6 (bindE hg (bindE (u21_18 hp hg) ?_)))))))))))))))), bindE (shelfT c) (iteFE b2iT (bindE w2 (iteFE b2iT (chkE rfl (by omega) (iteFE d' (bindE (isRow_iz c) (iteTE (by rw [eR]; rfl) (chkE rfl (by omega) (chkE eb (by omega) ?_)))))))))⟩
  · by_cases u : p = 7 ∨ p = 4 ∨ p = 1 ∨ p = 0
    · rw [if_pos u, decide_eq_true (by omega)]; exact iteFE b2iT (bindE hg rfl)
    · rw [if_neg u, decide_eq_false (by omega)]; exact iteTE rfl rfl
  · show m_taken_b61 (N + 6) M (iz p) (M.2.1 38 _) (N + 6) (M.2.1 38 _) = _
    rw [ek]
    exact V_step (k := 7) (k' := 4) _ _ hp (by omega) rfl (V_step (k := 4) (k' := 1) _ _ hp (by omega) rfl (V_step (k := 1) (k' := 0) _ _ hp (by omega) rfl (V_base _ _ hp _ _)))
