/-! PLAIN LAW: the law's value. Own text. -/
set_option maxRecDepth 100000
theorem div_m1 (a : Int32) : a / (-1) = -a := by
  rw [← Int32.toInt_inj, Int32.toInt_div, show (-1 : Int32).toInt = -1 from rfl, Int.tdiv_neg, Int.tdiv_one, Int32.toInt_neg]
theorem rem_m1 (a : Int32) : jrem a (-1) = 0 := by
  unfold jrem
  rw [div_m1]
  have : -a * -1 = a := by rw [Int32.neg_mul, Int32.mul_neg, Int32.mul_one, Int32.neg_neg]
  rw [this, Int32.sub_self]
def opx (s v5 v11 : Int32) : Option Int32 :=
  (if s = 37 then
  (if v11 = 0 then
  some 0
  else
  (if v11 = (-1) then
  some 0
  else
  nz v11 (
  some (jrem v5 v11))))
  else if s = 38 then
  (if v5 = 0 then
  (v12_is 0).bind fun v17 =>
  some v17
  else
  (if v11 = 0 then
  (v12_is 0).bind fun v19 =>
  some v19
  else
  (v12_is 1).bind fun v21 =>
  some v21))
  else if s = 42 then
  some (v5 * v11)
  else if s = 43 then
  some (v5 + v11)
  else if s = 45 then
  some (v5 - v11)
  else if s = 47 then
  (if v11 = 0 then
  some 0
  else
  (if v11 = (-1) then
  some (-v5)
  else
  nz v11 (
  some (v5 / v11))))
  else if s = 60 then
  (if v11 ≤ v5 then
  (v12_is 0).bind fun v24 =>
  some v24
  else
  (v12_is 1).bind fun v26 =>
  some v26)
  else if s = 61 then
  (if v5 = v11 then
  (v12_is 1).bind fun v30 =>
  some v30
  else
  (v12_is 0).bind fun v28 =>
  some v28)
  else if s = 62 then
  (if v5 ≤ v11 then
  (v12_is 0).bind fun v32 =>
  some v32
  else
  (v12_is 1).bind fun v34 =>
  some v34)
  else 
  (if v5 = 0 then
  (if v11 = 0 then
  (v12_is 0).bind fun v38 =>
  some v38
  else
  (v12_is 1).bind fun v40 =>
  some v40)
  else
  (v12_is 1).bind fun v36 =>
  some v36))
theorem op_iz {k : Int} (hk : 6 ≤ k ∧ k ≤ 15) (a b : Int32) : ∃ r, m_both (iz k) a b = some r ∧ opx (iz (signOf k)) a b = some r := by
  unfold m_both opx
  rcases (show k = 6 ∨ k = 7 ∨ k = 8 ∨ k = 9 ∨ k = 10 ∨ k = 11 ∨ k = 12 ∨ k = 13 ∨ k = 14 ∨ k = 15 by omega) with e | e | e | e | e | e | e | e | e | e <;> subst e
  · by_cases c : a = 0
    · by_cases d : b = 0
      · skip
        refine ⟨0, ?_, ?_⟩
        · exact iteTE (by decide) (iteTE c (iteTE d rfl))
        · exact iteFE (by decide) (iteFE (by decide) (iteFE (by decide) (iteFE (by decide) (iteFE (by decide) (iteFE (by decide) (iteFE (by decide) (iteFE (by decide) (iteFE (by decide) (iteTE c (iteTE d rfl))))))))))
      · skip
        refine ⟨1, ?_, ?_⟩
        · exact iteTE (by decide) (iteTE c (iteFE d rfl))
        · exact iteFE (by decide) (iteFE (by decide) (iteFE (by decide) (iteFE (by decide) (iteFE (by decide) (iteFE (by decide) (iteFE (by decide) (iteFE (by decide) (iteFE (by decide) (iteTE c (iteFE d rfl))))))))))
    · skip
      refine ⟨1, ?_, ?_⟩
      · exact iteTE (by decide) (iteFE c rfl)
      · exact iteFE (by decide) (iteFE (by decide) (iteFE (by decide) (iteFE (by decide) (iteFE (by decide) (iteFE (by decide) (iteFE (by decide) (iteFE (by decide) (iteFE (by decide) (iteFE c rfl)))))))))
  · by_cases c : a = 0
    · skip
      refine ⟨0, ?_, ?_⟩
      · exact iteFE (by decide) (iteTE (by decide) (iteTE c rfl))
      · exact iteFE (by decide) (iteTE (by decide) (iteTE c rfl))
    · by_cases d : b = 0
      · skip
        refine ⟨0, ?_, ?_⟩
        · exact iteFE (by decide) (iteTE (by decide) (iteFE c (iteTE d rfl)))
        · exact iteFE (by decide) (iteTE (by decide) (iteFE c (iteTE d rfl)))
      · skip
        refine ⟨1, ?_, ?_⟩
        · exact iteFE (by decide) (iteTE (by decide) (iteFE c (iteFE d rfl)))
        · exact iteFE (by decide) (iteTE (by decide) (iteFE c (iteFE d rfl)))
  · by_cases c : b ≤ a
    · skip
      refine ⟨0, ?_, ?_⟩
      · exact iteFE (by decide) (iteFE (by decide) (iteTE (by decide) (iteTE c rfl)))
      · exact iteFE (by decide) (iteFE (by decide) (iteFE (by decide) (iteFE (by decide) (iteFE (by decide) (iteFE (by decide) (iteTE (by decide) (iteTE c rfl)))))))
    · skip
      refine ⟨1, ?_, ?_⟩
      · exact iteFE (by decide) (iteFE (by decide) (iteTE (by decide) (iteFE c rfl)))
      · exact iteFE (by decide) (iteFE (by decide) (iteFE (by decide) (iteFE (by decide) (iteFE (by decide) (iteFE (by decide) (iteTE (by decide) (iteFE c rfl)))))))
  · by_cases c : a = b
    · skip
      refine ⟨1, ?_, ?_⟩
      · exact iteFE (by decide) (iteFE (by decide) (iteFE (by decide) (iteTE (by decide) (iteTE c rfl))))
      · exact iteFE (by decide) (iteFE (by decide) (iteFE (by decide) (iteFE (by decide) (iteFE (by decide) (iteFE (by decide) (iteFE (by decide) (iteTE (by decide) (iteTE c rfl))))))))
    · skip
      refine ⟨0, ?_, ?_⟩
      · exact iteFE (by decide) (iteFE (by decide) (iteFE (by decide) (iteTE (by decide) (iteFE c rfl))))
      · exact iteFE (by decide) (iteFE (by decide) (iteFE (by decide) (iteFE (by decide) (iteFE (by decide) (iteFE (by decide) (iteFE (by decide) (iteTE (by decide) (iteFE c rfl))))))))
  · by_cases c : a ≤ b
    · skip
      refine ⟨0, ?_, ?_⟩
      · exact iteFE (by decide) (iteFE (by decide) (iteFE (by decide) (iteFE (by decide) (iteTE (by decide) (iteTE c rfl)))))
      · exact iteFE (by decide) (iteFE (by decide) (iteFE (by decide) (iteFE (by decide) (iteFE (by decide) (iteFE (by decide) (iteFE (by decide) (iteFE (by decide) (iteTE (by decide) (iteTE c rfl)))))))))
    · skip
      refine ⟨1, ?_, ?_⟩
      · exact iteFE (by decide) (iteFE (by decide) (iteFE (by decide) (iteFE (by decide) (iteTE (by decide) (iteFE c rfl)))))
      · exact iteFE (by decide) (iteFE (by decide) (iteFE (by decide) (iteFE (by decide) (iteFE (by decide) (iteFE (by decide) (iteFE (by decide) (iteFE (by decide) (iteTE (by decide) (iteFE c rfl)))))))))
  · skip
    refine ⟨a + b, ?_, ?_⟩
    · exact iteFE (by decide) (iteFE (by decide) (iteFE (by decide) (iteFE (by decide) (iteFE (by decide) (iteTE (by decide) (rfl))))))
    · exact iteFE (by decide) (iteFE (by decide) (iteFE (by decide) (iteTE (by decide) (rfl))))
  · skip
    refine ⟨a - b, ?_, ?_⟩
    · exact iteFE (by decide) (iteFE (by decide) (iteFE (by decide) (iteFE (by decide) (iteFE (by decide) (iteFE (by decide) (iteTE (by decide) (rfl)))))))
    · exact iteFE (by decide) (iteFE (by decide) (iteFE (by decide) (iteFE (by decide) (iteTE (by decide) (rfl)))))
  · skip
    refine ⟨a * b, ?_, ?_⟩
    · exact iteFE (by decide) (iteFE (by decide) (iteFE (by decide) (iteFE (by decide) (iteFE (by decide) (iteFE (by decide) (iteFE (by decide) (iteTE (by decide) (rfl))))))))
    · exact iteFE (by decide) (iteFE (by decide) (iteTE (by decide) (rfl)))
  · by_cases c : b = 0
    · skip
      refine ⟨0, ?_, ?_⟩
      · exact iteFE (by decide) (iteFE (by decide) (iteFE (by decide) (iteFE (by decide) (iteFE (by decide) (iteFE (by decide) (iteFE (by decide) (iteFE (by decide) (iteTE (by decide) (iteTE c rfl)))))))))
      · exact iteFE (by decide) (iteFE (by decide) (iteFE (by decide) (iteFE (by decide) (iteFE (by decide) (iteTE (by decide) (iteTE c rfl))))))
    · by_cases d : b = -1
      · skip
        refine ⟨-a, ?_, ?_⟩
        · exact iteFE (by decide) (iteFE (by decide) (iteFE (by decide) (iteFE (by decide) (iteFE (by decide) (iteFE (by decide) (iteFE (by decide) (iteFE (by decide) (iteTE (by decide) (iteFE c (by rw [nz_ok c, d, div_m1]))))))))))
        · exact iteFE (by decide) (iteFE (by decide) (iteFE (by decide) (iteFE (by decide) (iteFE (by decide) (iteTE (by decide) (iteFE c (iteTE d rfl)))))))
      · skip
        refine ⟨a / b, ?_, ?_⟩
        · exact iteFE (by decide) (iteFE (by decide) (iteFE (by decide) (iteFE (by decide) (iteFE (by decide) (iteFE (by decide) (iteFE (by decide) (iteFE (by decide) (iteTE (by decide) (iteFE c (by rw [nz_ok c]))))))))))
        · exact iteFE (by decide) (iteFE (by decide) (iteFE (by decide) (iteFE (by decide) (iteFE (by decide) (iteTE (by decide) (iteFE c (iteFE d (by rw [nz_ok c]))))))))
  · by_cases c : b = 0
    · skip
      refine ⟨0, ?_, ?_⟩
      · exact iteFE (by decide) (iteFE (by decide) (iteFE (by decide) (iteFE (by decide) (iteFE (by decide) (iteFE (by decide) (iteFE (by decide) (iteFE (by decide) (iteFE (by decide) (iteTE c rfl)))))))))
      · exact iteTE (by decide) (iteTE c rfl)
    · by_cases d : b = -1
      · skip
        refine ⟨0, ?_, ?_⟩
        · exact iteFE (by decide) (iteFE (by decide) (iteFE (by decide) (iteFE (by decide) (iteFE (by decide) (iteFE (by decide) (iteFE (by decide) (iteFE (by decide) (iteFE (by decide) (iteFE c (by rw [nz_ok c, d, rem_m1]))))))))))
        · exact iteTE (by decide) (iteFE c (iteTE d rfl))
      · skip
        refine ⟨jrem a b, ?_, ?_⟩
        · exact iteFE (by decide) (iteFE (by decide) (iteFE (by decide) (iteFE (by decide) (iteFE (by decide) (iteFE (by decide) (iteFE (by decide) (iteFE (by decide) (iteFE (by decide) (iteFE c (by rw [nz_ok c]))))))))))
        · exact iteTE (by decide) (iteFE c (iteFE d (by rw [nz_ok c])))
/-- only the stack has changed -/
def K22 (S S' : MS) : Prop := S'.1 = S.1 ∧ S'.2.2 = S.2.2 ∧ ∀ r, r ≠ 22 → S'.2.1 r = S.2.1 r
theorem K22.rf (S : MS) : K22 S S := ⟨rfl, rfl, fun _ _ => rfl⟩
theorem K22.tr {S S' S'' : MS} (h : K22 S S') (g : K22 S' S'') : K22 S S'' := ⟨g.1.trans h.1, g.2.1.trans h.2.1, fun r hr => (g.2.2 r hr).trans (h.2.2 r hr)⟩
theorem K22.set {S S' : MS} (h : K22 S S') (j : Nat) (v : Int32) : K22 S (sA S' 22 j v) := ⟨h.1, h.2.1, fun r hr => by
  rw [← h.2.2 r hr]; funext i; rw [sA21, if_neg hr]⟩
def codesAt (S : MS) (i : Nat) (c : List Int) : Prop := ∀ k, k < c.length → ma S 13 (i + k) = c.getD k 0
theorem codesAt.l {S : MS} {i : Nat} {c c' : List Int} (h : codesAt S i (c ++ c')) : codesAt S i c := fun k hk => by
  rw [h k (by rw [List.length_append]; omega), List.getD_eq_getElem?_getD, List.getD_eq_getElem?_getD, List.getElem?_append_left hk]
theorem codesAt.r {S : MS} {i : Nat} {c c' : List Int} (h : codesAt S i (c ++ c')) : codesAt S (i + c.length) c' := fun k hk => by
  rw [Nat.add_assoc, h _ (by rw [List.length_append]; omega), List.getD_eq_getElem?_getD, List.getD_eq_getElem?_getD, List.getElem?_append_right (by omega), show c.length + k - c.length = k by omega]
theorem codesAt.k {S S' : MS} {i : Nat} {c : List Int} (h : codesAt S i c) (g : K22 S S') : codesAt S' i c := fun k hk => by rw [ma_cg (g.2.2 13 (by decide))]; exact h k hk
theorem codesAt.one {S : MS} {i : Nat} {c : Int} (h : codesAt S i [c]) : S.2.1 13 i = iz c := by
  have := h 0 (Nat.zero_lt_succ _)
  rw [Nat.add_zero] at this
  rw [ma_eq, this]; rfl
/-- the names, in both -/
def named (T : XS) (S : MS) : Prop := ∀ k : Int, 0 ≤ k → k ≤ 5 → T.2.1 49 (letterOf k).toNat = S.2.1 23 k.toNat
theorem letter_R {k : Int} (h : 0 ≤ k ∧ k ≤ 5) : 0 ≤ letterOf k ∧ letterOf k < 128 := by
  rcases (show k = 0 ∨ k = 1 ∨ k = 2 ∨ k = 3 ∨ k = 4 ∨ k = 5 by omega) with e | e | e | e | e | e <;> subst e <;> decide
theorem nodeR_len {X : XS} : ∀ (d a : Nat) (c : List Int), nodeR X d a c → 1 ≤ c.length := by
  intro d a c h
  cases d with
  | zero => exact h.elim
  | succ d =>
    obtain ⟨o, -, h⟩ := h
    rcases h with ⟨_, k, _, _, rfl, _⟩ | ⟨_, v, _, _, rfl, _⟩ | ⟨_, b, c1, _, _, rfl⟩ | ⟨_, b, c1, _, _, rfl⟩ | ⟨_, b1, b2, c1, c2, k, _, _, _, _, _, _, _, rfl⟩
    · exact Nat.le_refl _
    · exact Nat.le_refl _
    · rw [List.length_append]; exact Nat.le_add_left 1 _
    · rw [List.length_append]; exact Nat.le_add_left 1 _
    · rw [List.length_append, List.length_append]; show 1 ≤ _ + (_ + 1); omega
theorem node_val {X T : XS} (hX : T.2.2 = X.2.2) (N : Nat) (to : Nat) (hto : to ≤ 200) : ∀ (d a : Nat) (c : List Int), nodeR X d a c → ∀ S0 : MS, named T S0 → ∃ v, x_val d T a = some v ∧ ∀ (S : MS) (i top fu : Nat), S.2.1 23 = S0.2.1 23 → codesAt S i c → i + c.length ≤ to → top + c.length ≤ 200 → ∃ S', m_worked_b5 N (iz to) (fu + c.length) S (iz top) (iz i) = m_worked_b5 N (iz to) fu S' (iz ((top + 1 : Nat) : Int)) (iz ((i + c.length : Nat) : Int)) ∧ K22 S S' ∧ S'.2.1 22 top = v ∧ ∀ j, j < top → S'.2.1 22 j = S.2.1 22 j := by
  intro d
  induction d with
  | zero => intro a c h; exact h.elim
  | succ d ih =>
    intro a c h S0 hn
    obtain ⟨o, ho, h⟩ := h
    have hoT : T.2.2.2 a = some o := by rw [hX]; exact ho
    -- a number pushed
    have push : ∀ (cd : Int) (v : Int32), (0 ≤ cd ∧ cd ≤ 100000) → (∀ S : MS, S.2.1 23 = S0.2.1 23 → ∀ (i top fu : Nat), S.2.1 13 i = iz cd → i + 1 ≤ to → top + 1 ≤ 200 → m_worked_b5 N (iz to) (fu + 1) S (iz top) (iz i) = m_worked_b5 N (iz to) fu (sA S 22 top v) (iz ((top + 1 : Nat) : Int)) (iz ((i + 1 : Nat) : Int))) → ∀ (S : MS) (i top fu : Nat), S.2.1 23 = S0.2.1 23 → codesAt S i [cd] → i + [cd].length ≤ to → top + [cd].length ≤ 200 → ∃ S', m_worked_b5 N (iz to) (fu + [cd].length) S (iz top) (iz i) = m_worked_b5 N (iz to) fu S' (iz ((top + 1 : Nat) : Int)) (iz ((i + [cd].length : Nat) : Int)) ∧ K22 S S' ∧ S'.2.1 22 top = v ∧ ∀ j, j < top → S'.2.1 22 j = S.2.1 22 j := fun cd v hcd hst S i top fu e23 hc hi ht => by
      refine ⟨sA S 22 top v, hst S e23 i top fu hc.one hi ht, (K22.rf S).set _ _, ?_, fun j hj => ?_⟩
      · rw [sA21, if_pos rfl, if_pos rfl]
      · rw [sA21, if_pos rfl, if_neg (by omega)]
    -- the head of a step
    have head : ∀ (S : MS) (i top fu : Nat) (cd : Int) (r : Option (Int32 × MS)), S.2.1 13 i = iz cd → i + 1 ≤ to → (if 18 ≤ iz cd then m_worked_b33 N (iz to) (iz top) (iz i) (iz cd) (fun t y3 y4 => m_worked_b5 N (iz to) fu t y3 y4) S else (if 5 < iz cd then (if iz cd = 16 then m_worked_b81 N (iz to) (iz top) (iz i) (iz cd) (fun t y3 y4 => m_worked_b5 N (iz to) fu t y3 y4) S else (if iz cd = 17 then m_worked_b81 N (iz to) (iz top) (iz i) (iz cd) (fun t y3 y4 => m_worked_b5 N (iz to) fu t y3 y4) S else nm (iz top + (-1)) fun x3 => chk 200 (x3 - 1) (chk 200 x3 ((m_both (iz cd) (S.2.1 22 (x3 - 1).toNatClampNeg) (S.2.1 22 x3.toNatClampNeg)).bind fun v7 => chk 200 (x3 - 1) (nm (sA S 22 (x3 - 1).toNatClampNeg v7) fun T8 => nm (iz i + 1) fun x10 => m_worked_b5 N (iz to) fu T8 x3 x10))))) else m_worked_b33 N (iz to) (iz top) (iz i) (iz cd) (fun t y3 y4 => m_worked_b5 N (iz to) fu t y3 y4) S)) = r → m_worked_b5 N (iz to) (fu + 1) S (iz top) (iz i) = r := fun S i top fu cd r e13 hi hr => by
      rw [m_worked_b5]
      refine iteFE (by rw [iz_le (by omega)]; omega) (chkE rfl (by omega) ?_)
      rw [nmE, iz_clampN (by omega), e13]
      exact hr
    rcases h with ⟨t8, k, k0, k5, rfl, e0⟩ | ⟨t11, v, v0, v9, rfl, e0⟩ | ⟨t9, b, c1, b1, b2, rfl⟩ | ⟨t10, b, c1, b1, b2, rfl⟩ | ⟨t12, b1, b2, c1, c2, k, k6, k15, es, f1, f2, g1, g2, rfl⟩
    · have lr := letter_R ⟨k0, k5⟩
      refine ⟨T.2.1 49 (letterOf k).toNat, ?_, push k _ (by omega) (fun S e23 i top fu e13 hi ht => head S i top fu k _ e13 hi ?_)⟩
      · rw [x_val]
        refine bindE hoT (iteTE t8 ?_)
        unfold v8_value
        refine bindE (getO_eq hoT t8) (chkE e0 (by omega) ?_)
        rw [e0, iz_clamp (by omega)]
      · refine iteFE (by rw [show (18 : Int32) = iz 18 from rfl, iz_le (by omega)]; omega) (iteFE (by rw [show (5 : Int32) = iz 5 from rfl, iz_lt (by omega)]; omega) ?_)
        unfold m_worked_b33
        rw [nmE]
        refine iteTE (by rw [show (18 : Int32) = iz 18 from rfl, iz_lt (by omega)]; omega) (chkE rfl (by omega) (chkE rfl (by omega) ?_))
        rw [nmE, nmE, iz_clampN (by omega), iz_clamp (by omega), show (1 : Int32) = iz 1 from rfl, iz_add, iz_add, e23, ← hn k k0 k5]
        rfl
    · refine ⟨iz v, ?_, push (18 + v) _ (by omega) (fun S e23 i top fu e13 hi ht => head S i top fu (18 + v) _ e13 hi ?_)⟩
      · rw [x_val]
        refine bindE hoT (iteFE (by omega) (iteFE (by omega) (iteFE (by omega) (iteTE t11 ?_))))
        unfold v11_value
        exact bindE (getO_eq hoT t11) (by rw [e0])
      · refine iteTE (by rw [show (18 : Int32) = iz 18 from rfl, iz_le (by omega)]; omega) ?_
        unfold m_worked_b33
        rw [nmE]
        refine iteFE (by rw [show (18 : Int32) = iz 18 from rfl, iz_lt (by omega)]; omega) (chkE rfl (by omega) ?_)
        rw [nmE, nmE, iz_clampN (by omega), show (1 : Int32) = iz 1 from rfl, show (18 : Int32) = iz 18 from rfl, iz_add, iz_add, iz_sub, show 18 + v - 18 = v by omega]
        rfl
    · obtain ⟨v1, q1, q2⟩ := ih b c1 b2 S0 hn
      refine ⟨if v1 = 0 then 1 else 0, ?_, fun S i top fu e23 hc hi ht => ?_⟩
      · rw [x_val]
        refine bindE hoT (iteFE (by omega) (iteTE t9 ?_))
        unfold v9_value
        refine bindE (getO_eq hoT t9) (bindE b1 (bindE q1 ?_))
        split <;> rfl
      · rw [List.length_append] at hi ht ⊢
        have l1 : [(16 : Int)].length = 1 := rfl
        rw [l1] at hi ht ⊢
        obtain ⟨S', u1, u2, u3, u4⟩ := q2 S i top (fu + 1) e23 hc.l (by omega) (by omega)
        have e13 := (hc.r.k u2).one
        have em : (iz ((top + 1 : Nat) : Int)) - 1 = iz top := by rw [show (1 : Int32) = iz 1 from rfl, iz_sub]; congr 1; omega
        have ni : iz ((i + c1.length : Nat) : Int) + 1 = iz ((i + (c1.length + 1) : Nat) : Int) := by rw [show (1 : Int32) = iz 1 from rfl, iz_add]; congr 1
        refine ⟨sA S' 22 top (if v1 = 0 then 1 else 0), ?_, u2.set _ _, ?_, fun j hj => ?_⟩
        · rw [show fu + (c1.length + 1) = fu + 1 + c1.length by omega, u1]
          refine head S' (i + c1.length) (top + 1) fu 16 _ e13 (by omega) (iteFE (by decide) (iteTE (by decide) (iteTE rfl ?_)))
          unfold m_worked_b81
          rw [em, ni]
          refine iteFE (by decide) (chkE rfl (by omega) ?_)
          rw [iz_clampN (by omega), u3]
          by_cases z : v1 = 0
          · rw [if_pos z, if_pos z]
            refine chkE rfl (by omega) ?_
            rw [nmE, nmE]
          · rw [if_neg z, if_neg z]
            refine chkE rfl (by omega) ?_
            rw [nmE, nmE]
        · rw [sA21, if_pos rfl, if_pos rfl]
        · rw [sA21, if_pos rfl, if_neg (by omega)]
          exact u4 j hj
    · obtain ⟨v1, q1, q2⟩ := ih b c1 b2 S0 hn
      refine ⟨-v1, ?_, fun S i top fu e23 hc hi ht => ?_⟩
      · rw [x_val]
        refine bindE hoT (iteFE (by omega) (iteFE (by omega) (iteTE t10 ?_)))
        unfold v10_value
        exact bindE (getO_eq hoT t10) (bindE b1 (bindE q1 rfl))
      · rw [List.length_append] at hi ht ⊢
        have l1 : [(17 : Int)].length = 1 := rfl
        rw [l1] at hi ht ⊢
        obtain ⟨S', u1, u2, u3, u4⟩ := q2 S i top (fu + 1) e23 hc.l (by omega) (by omega)
        have e13 := (hc.r.k u2).one
        have em : (iz ((top + 1 : Nat) : Int)) - 1 = iz top := by rw [show (1 : Int32) = iz 1 from rfl, iz_sub]; congr 1; omega
        have ni : iz ((i + c1.length : Nat) : Int) + 1 = iz ((i + (c1.length + 1) : Nat) : Int) := by rw [show (1 : Int32) = iz 1 from rfl, iz_add]; congr 1
        refine ⟨sA S' 22 top (-v1), ?_, u2.set _ _, ?_, fun j hj => ?_⟩
        · rw [show fu + (c1.length + 1) = fu + 1 + c1.length by omega, u1]
          refine head S' (i + c1.length) (top + 1) fu 17 _ e13 (by omega) (iteFE (by decide) (iteTE (by decide) (iteFE (by decide) (iteTE rfl ?_))))
          unfold m_worked_b81
          rw [em, ni]
          refine iteTE rfl (chkE rfl (by omega) (chkE rfl (by omega) ?_))
          rw [nmE, nmE, iz_clampN (by omega), u3]
        · rw [sA21, if_pos rfl, if_pos rfl]
        · rw [sA21, if_pos rfl, if_neg (by omega)]
          exact u4 j hj
    · obtain ⟨v1, q1, q2⟩ := ih b1 c1 g1 S0 hn
      obtain ⟨v2, r1, r2⟩ := ih b2 c2 g2 S0 hn
      obtain ⟨v, w1, w2⟩ := op_iz ⟨k6, k15⟩ v1 v2
      have len1 := nodeR_len _ _ _ g1
      have len2 := nodeR_len _ _ _ g2
      refine ⟨v, ?_, fun S i top fu e23 hc hi ht => ?_⟩
      · rw [x_val]
        refine bindE hoT (iteFE (by omega) (iteFE (by omega) (iteFE (by omega) (iteFE (by omega) (iteTE t12 ?_)))))
        unfold v12_value
        refine bindE (getO_eq hoT t12) (bindE f1 (bindE q1 (bindE (getO_eq hoT t12) (bindE f2 (bindE r1 (bindE (getO_eq hoT t12) ?_))))))
        rw [es]
        exact w2
      · rw [List.length_append, List.length_append] at hi ht ⊢
        have l1 : [k].length = 1 := rfl
        rw [l1] at hi ht ⊢
        obtain ⟨S1, u1, u2, u3, u4⟩ := q2 S i top (fu + 1 + c2.length) e23 hc.l (by omega) (by omega)
        obtain ⟨S2, y1, y2, y3, y4⟩ := r2 S1 (i + c1.length) (top + 1) (fu + 1) ((u2.2.2 23 (by decide)).trans e23) (hc.r.k u2).l (by omega) (by omega)
        have e13 := ((hc.r.k u2).r.k y2).one
        have e1 : (iz ((top + 1 + 1 : Nat) : Int)) + (-1) = iz ((top + 1 : Nat) : Int) := by rw [show (-1 : Int32) = iz (-1) from rfl, iz_add]; congr 1; omega
        have em : (iz ((top + 1 : Nat) : Int)) - 1 = iz top := by rw [show (1 : Int32) = iz 1 from rfl, iz_sub]; congr 1; omega
        have ni : iz ((i + c1.length + c2.length : Nat) : Int) + 1 = iz ((i + (c1.length + (c2.length + 1)) : Nat) : Int) := by rw [show (1 : Int32) = iz 1 from rfl, iz_add]; congr 1; omega
        refine ⟨sA S2 22 top v, ?_, (u2.tr y2).set _ _, ?_, fun j hj => ?_⟩
        · rw [show fu + (c1.length + (c2.length + 1)) = fu + 1 + c2.length + c1.length by omega, u1, y1]
          refine head S2 (i + c1.length + c2.length) (top + 1 + 1) fu k _ e13 (by omega) (iteFE (by rw [show (18 : Int32) = iz 18 from rfl, iz_le (by omega)]; omega) (iteTE (by rw [show (5 : Int32) = iz 5 from rfl, iz_lt (by omega)]; omega) (iteFE (by rw [show (16 : Int32) = iz 16 from rfl, iz_eq (by omega)]; omega) (iteFE (by rw [show (17 : Int32) = iz 17 from rfl, iz_eq (by omega)]; omega) ?_))))
          rw [nmE, e1, em, ni]
          refine chkE rfl (by omega) (chkE rfl (by omega) ?_)
          rw [iz_clampN (by omega), iz_clampN (by omega), y3, y4 top (by omega), u3]
          refine bindE w1 (chkE rfl (by omega) ?_)
          rw [nmE, nmE]
        · rw [sA21, if_pos rfl, if_pos rfl]
        · rw [sA21, if_pos rfl, if_neg (by omega), y4 j (by omega)]
          exact u4 j hj
theorem worked_iz {X T : XS} {S : MS} (hX : T.2.2 = X.2.2) (hn : named T S) {N : Nat} (hN : 300 ≤ N) {g : Nat} {c : List Int} {i j : Int} (h : nodeR X 130 g c) (hc : codeSl S i j c) (hi : 0 ≤ i) (hj : j ≤ 200) : ∃ v S', x_val 130 T g = some v ∧ m_worked N S (iz i) (iz j) = some (v, S') ∧ K22 S S' := by
  obtain ⟨c1, c2⟩ := hc
  obtain ⟨v, v1, v2⟩ := node_val hX N j.toNat (by omega) 130 g c h S hn
  obtain ⟨N', rfl⟩ : ∃ N', N = N' + 1 + c.length := ⟨N - 1 - c.length, by omega⟩
  obtain ⟨S', u1, u2, u3, u4⟩ := v2 S i.toNat 0 (N' + 1) rfl c2 (by omega) (by omega)
  refine ⟨v, S', v1, ?_, u2⟩
  unfold m_worked
  rw [show ((j.toNat : Nat) : Int) = j by omega, show ((i.toNat : Nat) : Int) = i by omega] at u1
  refine u1.trans ?_
  rw [m_worked_b5]
  refine iteTE ((iz_le (by omega)).mpr (by omega)) ?_
  rw [u3]
