/-! PLAIN LAW: steps, rows of numbers. Own text. -/
set_option maxRecDepth 100000
theorem bindE {α β : Type} {x : Option α} {v : α} {f : α → Option β} {r : Option β} (h : x = some v) (k : f v = r) : x.bind f = r := by rw [h]; exact k
theorem iteTE {α : Type} {c : Prop} [Decidable c] {a b r : α} (h : c) (k : a = r) : (if c then a else b) = r := by rw [if_pos h]; exact k
theorem iteFE {α : Type} {c : Prop} [Decidable c] {a b r : α} (h : ¬ c) (k : b = r) : (if c then a else b) = r := by rw [if_neg h]; exact k
theorem chkE {α : Type} {N : Nat} {i : Int32} {a : Int} {K r : Option α} (e : i = iz a) (h : 0 ≤ a ∧ a < N ∧ a ≤ 2147483647) (k : K = r) : chk N i K = r := by rw [e, chk_iz h]; exact k
theorem b2E {α β γ : Type} {x : Option (α × β)} {a : α} {b : β} {f : α → β → Option γ} {r : Option γ} (h : x = some (a, b)) (k : f a b = r) : b2 x f = r := by rw [h]; exact k
theorem onlS {α β : Type} {e : Option α} {a : α} {A : Option β} {B : α → Option β} {r : Option β} (h : e = some a) (k : B a = r) : onl e A B = r := by rw [h]; exact k
theorem onlN {α β : Type} {e : Option α} {A : Option β} {B : α → Option β} {r : Option β} (h : e = none) (k : A = r) : onl e A B = r := by rw [h]; exact k
theorem b2iT : ¬ b2i true = (0 : Int32) := by decide
theorem b2iF : b2i false = (0 : Int32) := by decide
theorem shelfT {a : Int} (c : 0 ≤ a ∧ a ≤ 5) : x_isShelf (iz a) = some true := by rw [x_isShelf_iz (by omega), decide_eq_true c]
theorem shelfF {a : Int} (h : -2147483648 ≤ a ∧ a ≤ 2147483647) (c : ¬ (0 ≤ a ∧ a ≤ 5)) : x_isShelf (iz a) = some false := by rw [x_isShelf_iz h, decide_eq_false c]
theorem isRow_iz {M : MS} {a : Int} (c : 0 ≤ a ∧ a ≤ 5) : m_isRow M (iz a) = some (decide (0 ≤ ma M 41 a.toNat ∧ ma M 41 a.toNat ≤ 4)) := by
  have r := ma_R M 41 a.toNat
  unfold m_isRow
  refine chkE rfl (by omega) ?_
  rw [iz_clamp (by omega), ma_eq M 41, show (0 : Int32) = iz 0 from rfl, show (4 : Int32) = iz 4 from rfl, m_within_iz (by omega)]
  rfl
theorem shR.ge {X : XS} {M : MS} {s : Nat} (h : shR X M s) : -1 ≤ ma M 41 s ∧ (ma M 41 s ≤ 4 → -1 < ma M 41 s → ∃ h : Nat, h ≤ 4 ∧ ma M 41 s = h) := by
  rcases h with ⟨h1, -⟩ | ⟨b, h1, -⟩ | ⟨h', a, b, z, h1, h2, -⟩
  · omega
  · omega
  · exact ⟨by omega, fun _ _ => ⟨h', h1, h2⟩⟩
theorem shR.body {X : XS} {M : MS} {s : Nat} (h : shR X M s) (g : RB X M) (c : 5 ≤ ma M 41 s) : ∃ (b k a : Nat) (o : XO), ma M 41 s = 10 + b ∧ (b : Int) < mi M 37 ∧ mi M 37 ≤ 50 ∧ X.2.2.1 48 s = some a ∧ X.2.2.2 a = some o ∧ o.1 = 14 + k ∧ k ≤ 7 ∧ ma M 38 b = k ∧ o.2.1 0 = iz b := by
  rcases h with ⟨h1, -⟩ | ⟨b, h1, h2, h3⟩ | ⟨h', a, b, z, h1, h2, -⟩
  · omega
  · obtain ⟨g1, g2⟩ := g
    obtain ⟨a, o, q1, q2, q3, q4, q5⟩ := g2 b h2
    exact ⟨b, (ma M 38 b).toNat, a, o, h1, h2, g1.2.2, h3.trans q1, q2, by omega, by omega, by omega, q5⟩
  · omega
theorem law_element {X : XS} {M : MS} (h : R X M) (p w : Int32) : ∃ v, x_element X p w = some v ∧ m_element M p w = some v := by
  obtain ⟨z, hz, rfl⟩ := izE p
  obtain ⟨i, hi, rfl⟩ := izE w
  obtain ⟨h1, h2, h3, h4, h5, h6, h7, h8, h9⟩ := h
  unfold x_element m_element
  by_cases c : ¬ (0 ≤ z ∧ z ≤ 5)
  · exact ⟨_, bindE (shelfF hz c) (iteTE rfl rfl), bindE (shelfF hz c) (iteTE rfl rfl)⟩
  replace c := Decidable.not_not.mp c
  have e1 := h9.1 z.toNat (by omega)
  have ez : (iz z).toNatClampNeg = z.toNat := iz_clamp (by omega)
  by_cases d : ma M 41 z.toNat = -1
  · refine ⟨-9223372036854775808, bindE (shelfT c) (iteFE b2iT (chkE rfl (by omega) (onlN ?_ rfl))), bindE (shelfT c) (iteFE b2iT (bindE (isRow_iz c) (iteTE ?_ rfl)))⟩
    · rw [ez]
      rcases e1 with ⟨-, q⟩ | ⟨b, q, -⟩ | ⟨k, a, b, y, q1, q2, -⟩
      · exact q
      · omega
      · omega
    · rw [decide_eq_false (by omega)]; rfl
  by_cases d2 : 5 ≤ ma M 41 z.toNat
  · obtain ⟨b, k, a, o, q1, q2, q3, q4, q5, q6, q7, q8, q9⟩ := e1.body h8 d2
    refine ⟨-9223372036854775808, bindE (shelfT c) (iteFE b2iT (chkE rfl (by omega) (onlS (by rw [ez]; exact q4) (bindE q5 (iteFE (by omega) (iteFE (by omega) (iteFE (by omega) (iteFE (by omega) (iteFE (by omega) (iteTE ?_ rfl)))))))))), bindE (shelfT c) (iteFE b2iT (bindE (isRow_iz c) (iteTE ?_ rfl)))⟩
    · simp only [List.mem_cons, List.not_mem_nil]; omega
    · rw [decide_eq_false (by omega)]; rfl
  obtain ⟨k, k4, hk⟩ := e1.ge.2 (by omega) (by have := e1.ge.1; omega)
  obtain ⟨a, b, y, g1, g2, g3, g4, g5⟩ := e1.row hk k4
  obtain ⟨x, x1, x2, -⟩ := rowZ_ex g2
  have mm : ∀ r : Option Int64, (m_within (iz i) 0 ((M.2.1 42 (iz z).toNatClampNeg) - 1)).bind (fun v7 => (if (b2i v7) = 0 then some (-9223372036854775808) else chk 360 ((60 * iz z) + iz i) (some (M.2.2 ((60 * iz z) + iz i).toNatClampNeg)))) = r → ((m_isShelf (iz z)).bind fun v2 => (if (b2i v2) = 0 then some (-9223372036854775808) else (m_isRow M (iz z)).bind fun v4 => (if (b2i v4) = 0 then some (-9223372036854775808) else chk 6 (iz z) ((m_within (iz i) 0 ((M.2.1 42 (iz z).toNatClampNeg) - 1)).bind fun v7 => (if (b2i v7) = 0 then some (-9223372036854775808) else chk 360 ((60 * iz z) + iz i) (some (M.2.2 ((60 * iz z) + iz i).toNatClampNeg))))))) = r :=
    fun r hr => bindE (shelfT c) (iteFE b2iT (bindE (isRow_iz c) (iteFE (by rw [decide_eq_true (by omega)]; exact b2iT) (chkE rfl (by omega) hr))))
  have w1 : m_within (iz i) 0 ((M.2.1 42 (iz z).toNatClampNeg) - 1) = some (decide (0 ≤ i ∧ i ≤ (y.2.2.2.1 : Int) - 1)) := by
    rw [ez, ma_eq M 42, g3, show (0 : Int32) = iz 0 from rfl, show (1 : Int32) = iz 1 from rfl, iz_sub, m_within_iz (by omega)]
  by_cases ci : 0 ≤ i ∧ i ≤ (y.2.2.2.1 : Int) - 1
  · rw [decide_eq_true ci] at w1
    have ei : (iz i).toNatClampNeg = i.toNat := iz_clamp (by omega)
    have ea : (60 * iz z) + iz i = iz (60 * z + i) := by rw [show (60 : Int32) = iz 60 from rfl, iz_mul, iz_add]
    refine ⟨M.2.2 (60 * z.toNat + i.toNat), bindE (shelfT c) (iteFE b2iT (chkE rfl (by omega) (onlS (by rw [ez]; exact g1) (bindE x1 ?_)))), mm _ (bindE w1 (iteFE b2iT (chkE ea (by omega) ?_)))⟩
    · have n1 : ¬ ((iz i) < 0 ∨ y.2.2.2.1 ≤ (iz i).toNatClampNeg) := by
        rw [ei, show (0 : Int32) = iz 0 from rfl, iz_lt (by omega)]; omega
      have g6 := g5 i.toNat (by omega)
      rcases (show k = 0 ∨ k = 1 ∨ k = 2 ∨ k = 3 ∨ k = 4 by omega) with k0 | k0 | k0 | k0 | k0 <;> subst k0
      · exact iteTE x2 (b2E g2 (iteFE n1 (by rw [ei]; exact congrArg some g6)))
      · exact iteFE (by omega) (iteTE x2 (b2E g2 (iteFE n1 (by rw [ei]; exact congrArg some g6))))
      · exact iteFE (by omega) (iteFE (by omega) (iteTE x2 (b2E g2 (iteFE n1 (by rw [ei]; exact congrArg some g6)))))
      · exact iteFE (by omega) (iteFE (by omega) (iteFE (by omega) (iteTE x2 (b2E g2 (iteFE n1 (by rw [ei]; exact congrArg some g6))))))
      · exact iteFE (by omega) (iteFE (by omega) (iteFE (by omega) (iteFE (by omega) (iteTE x2 (b2E g2 (iteFE n1 (by rw [ei]; exact congrArg some g6)))))))
    · rw [ea, iz_clamp (by omega), show (60 * z + i).toNat = 60 * z.toNat + i.toNat by omega]
  · rw [decide_eq_false ci] at w1
    refine ⟨-9223372036854775808, bindE (shelfT c) (iteFE b2iT (chkE rfl (by omega) (onlS (by rw [ez]; exact g1) (bindE x1 ?_)))), mm _ (bindE w1 (iteTE b2iF rfl))⟩
    have n1 : (iz i) < 0 ∨ y.2.2.2.1 ≤ (iz i).toNatClampNeg := by
      by_cases n : i < 0
      · left; rw [show (0 : Int32) = iz 0 from rfl, iz_lt (by omega)]; exact n
      · right; rw [iz_clamp (by omega)]; omega
    have n2 : y.2.2.2.1 < 2147483648 := by omega
    rcases (show k = 0 ∨ k = 1 ∨ k = 2 ∨ k = 3 ∨ k = 4 by omega) with k0 | k0 | k0 | k0 | k0 <;> subst k0
    · exact iteTE x2 (b2E g2 (iteTE n1 (iteTE n2 rfl)))
    · exact iteFE (by omega) (iteTE x2 (b2E g2 (iteTE n1 (iteTE n2 rfl))))
    · exact iteFE (by omega) (iteFE (by omega) (iteTE x2 (b2E g2 (iteTE n1 (iteTE n2 rfl)))))
    · exact iteFE (by omega) (iteFE (by omega) (iteFE (by omega) (iteTE x2 (b2E g2 (iteTE n1 (iteTE n2 rfl))))))
    · exact iteFE (by omega) (iteFE (by omega) (iteFE (by omega) (iteFE (by omega) (iteTE x2 (b2E g2 (iteTE n1 (iteTE n2 rfl)))))))
