/-! PLAIN LAW: numbers. An Int32 as the image of an integer. Own text. -/
set_option maxRecDepth 100000
def iz (z : Int) : Int32 := Int32.ofInt z
theorem iz_toInt {a : Int} (h : -2147483648 ≤ a ∧ a ≤ 2147483647) : (iz a).toInt = a := Int32.toInt_ofInt_of_le (by omega) (by omega)
theorem iz_of (x : Int32) : iz x.toInt = x := Int32.ofInt_toInt x
theorem izE (x : Int32) : ∃ z : Int, (-2147483648 ≤ z ∧ z ≤ 2147483647) ∧ x = iz z := ⟨x.toInt, ⟨by have := x.le_toInt; omega, by have := x.toInt_lt; omega⟩, (iz_of x).symm⟩
theorem iz_lt {a b : Int} (h : (-2147483648 ≤ a ∧ a ≤ 2147483647) ∧ -2147483648 ≤ b ∧ b ≤ 2147483647) : (iz a < iz b) ↔ a < b := by
  rw [Int32.lt_iff_toInt_lt, iz_toInt h.1, iz_toInt h.2]
theorem iz_le {a b : Int} (h : (-2147483648 ≤ a ∧ a ≤ 2147483647) ∧ -2147483648 ≤ b ∧ b ≤ 2147483647) : (iz a ≤ iz b) ↔ a ≤ b := by
  rw [Int32.le_iff_toInt_le, iz_toInt h.1, iz_toInt h.2]
theorem iz_eq {a b : Int} (h : (-2147483648 ≤ a ∧ a ≤ 2147483647) ∧ -2147483648 ≤ b ∧ b ≤ 2147483647) : (iz a = iz b) ↔ a = b := by
  rw [← Int32.toInt_inj, iz_toInt h.1, iz_toInt h.2]
theorem iz_add (a b : Int) : iz a + iz b = iz (a + b) := (Int32.ofInt_add a b).symm
theorem iz_sub (a b : Int) : iz a - iz b = iz (a - b) := (Int32.ofInt_sub a b).symm
theorem iz_mul (a b : Int) : iz a * iz b = iz (a * b) := (Int32.ofInt_mul a b).symm
theorem iz_neg (a : Int) : -iz a = iz (-a) := (Int32.ofInt_neg a).symm
theorem iz_lit (n : Nat) : (no_index (OfNat.ofNat n) : Int32) = iz (OfNat.ofNat n) := by
  show Int32.ofNat n = Int32.ofInt (n : Int)
  rw [Int32.ofInt_eq_ofNat]
theorem iz_nat (n : Nat) : Int32.ofNat n = iz n := by
  show Int32.ofNat n = Int32.ofInt (n : Int)
  rw [Int32.ofInt_eq_ofNat]
theorem iz_clamp {a : Int} (h : -2147483648 ≤ a ∧ a ≤ 2147483647) : (iz a).toNatClampNeg = a.toNat := by rw [← Int32.toNat_toInt, iz_toInt h]
theorem iz_clampN {n : Nat} (h : (n : Int) ≤ 2147483647) : (iz n).toNatClampNeg = n := by rw [iz_clamp (by omega)]; omega
theorem vp_iz {a : Int} {N : Nat} (h : 0 ≤ a ∧ a < N ∧ a ≤ 2147483647) : vp_in (iz a) N := by
  unfold vp_in
  rw [iz_clamp (by omega), show (0 : Int32) = iz 0 from rfl, iz_lt (by omega)]
  omega
theorem chk_iz {α : Type} {N : Nat} {a : Int} {K : Option α} (h : 0 ≤ a ∧ a < N ∧ a ≤ 2147483647) : chk N (iz a) K = K := chk_ok (vp_iz h)
theorem chkP_iz {N : Nat} {a : Int} {K : Prop} (h : 0 ≤ a ∧ a < N ∧ a ≤ 2147483647) : chkP N (iz a) K ↔ K := ⟨fun q => q.2, fun q => ⟨vp_iz h, q⟩⟩
theorem jmax_iz {a b : Int} (h : (-2147483648 ≤ a ∧ a ≤ 2147483647) ∧ -2147483648 ≤ b ∧ b ≤ 2147483647) : jmax (iz a) (iz b) = iz (max a b) := by
  unfold jmax
  by_cases q : a < b
  · rw [if_pos ((iz_lt h).mpr q), show max a b = b by omega]
  · rw [if_neg (fun z => q ((iz_lt h).mp z)), show max a b = a by omega]
theorem jmin_iz {a b : Int} (h : (-2147483648 ≤ a ∧ a ≤ 2147483647) ∧ -2147483648 ≤ b ∧ b ≤ 2147483647) : jmin (iz a) (iz b) = iz (min a b) := by
  unfold jmin
  by_cases q : b < a
  · rw [if_pos ((iz_lt ⟨h.2, h.1⟩).mpr q), show min a b = b by omega]
  · rw [if_neg (fun z => q ((iz_lt ⟨h.2, h.1⟩).mp z)), show min a b = a by omega]
theorem jabs_iz {a : Int} (h : -2147483648 ≤ a ∧ a ≤ 2147483647) : jabs (iz a) = iz a.natAbs := by
  unfold jabs
  rw [show (0 : Int32) = iz 0 from rfl, iz_sub]
  have e : (iz 0 ≤ iz a) ↔ 0 ≤ a := iz_le (by omega)
  by_cases q : 0 ≤ a
  · rw [if_pos (e.mpr q), show ((a.natAbs : Int)) = a by omega]
  · rw [if_neg (fun z => q (e.mp z)), show ((a.natAbs : Int)) = 0 - a by omega]
theorem iz_div {a b : Int} (h : (0 ≤ a ∧ a ≤ 2147483647) ∧ 0 < b ∧ b ≤ 2147483647) : iz a / iz b = iz (a / b) := by
  rw [← Int32.toInt_inj, Int32.toInt_div_of_ne_right _ _ (by
    rw [show (-1 : Int32) = iz (-1) from rfl, Ne, iz_eq (by omega)]; omega), iz_toInt (by omega), iz_toInt (by omega), Int.tdiv_eq_ediv_of_nonneg h.1.1]
  have h1 : 0 ≤ a / b := Int.ediv_nonneg h.1.1 (by omega)
  have h2 : a / b ≤ a := Int.ediv_le_self b h.1.1
  rw [iz_toInt (by omega)]
theorem jrem_iz {a b : Int} (h : (0 ≤ a ∧ a ≤ 2147483647) ∧ 0 < b ∧ b ≤ 2147483647) : jrem (iz a) (iz b) = iz (a % b) := by
  unfold jrem
  rw [iz_div h, iz_mul, iz_sub]
  have := Int.emod_add_mul_ediv a b
  rw [show a - a / b * b = a % b by rw [Int.mul_comm (a / b) b]; omega]
theorem nz_iz {α : Type} {a : Int} {K : Option α} (h : (-2147483648 ≤ a ∧ a ≤ 2147483647) ∧ a ≠ 0) : nz (iz a) K = K := nz_ok (by
  rw [show (0 : Int32) = iz 0 from rfl, iz_eq (by omega)]; exact h.2)
theorem b2i_0 {b : Bool} : (b2i b = 0) ↔ b = false := by cases b <;> decide
theorem x_in_iz {a b c : Int} (h : (-2147483648 ≤ a ∧ a ≤ 2147483647) ∧ (-2147483648 ≤ b ∧ b ≤ 2147483647) ∧ -2147483648 ≤ c ∧ c ≤ 2147483647) : x_in (iz a) (iz b) (iz c) = some (decide (b ≤ a ∧ a ≤ c)) := by
  unfold x_in
  have e1 : (iz a < iz b) ↔ a < b := iz_lt (by omega)
  have e2 : (iz c < iz a) ↔ c < a := iz_lt (by omega)
  by_cases q : a < b
  · rw [if_pos (e1.mpr q), decide_eq_false (by omega)]
  · by_cases q2 : c < a
    · rw [if_neg (fun z => q (e1.mp z)), if_pos (e2.mpr q2), decide_eq_false (by omega)]
    · rw [if_neg (fun z => q (e1.mp z)), if_neg (fun z => q2 (e2.mp z)), decide_eq_true (by omega)]
theorem m_within_iz {a b c : Int} (h : (-2147483648 ≤ a ∧ a ≤ 2147483647) ∧ (-2147483648 ≤ b ∧ b ≤ 2147483647) ∧ -2147483648 ≤ c ∧ c ≤ 2147483647) : m_within (iz a) (iz b) (iz c) = some (decide (b ≤ a ∧ a ≤ c)) := x_in_iz h
/-! states -/
theorem xI1 (S : XS) (k : Nat) (v : Int32) (j : Nat) : (xI S k v).1 j = if j = k then v else S.1 j := rfl
theorem xI2 (S : XS) (k : Nat) (v : Int32) : (xI S k v).2 = S.2 := rfl
theorem xA1 (S : XS) (k j : Nat) (v : Int32) : (xA S k j v).1 = S.1 := rfl
theorem xA21 (S : XS) (k j : Nat) (v : Int32) (k' i : Nat) : (xA S k j v).2.1 k' i = if k' = k then (if i = j then v else S.2.1 k i) else S.2.1 k' i := by
  show updA S.2.1 k (upd (S.2.1 k) j v) k' i = _
  unfold updA upd
  by_cases h : k' = k <;> simp [h]
theorem xA22 (S : XS) (k j : Nat) (v : Int32) : (xA S k j v).2.2 = S.2.2 := rfl
theorem xR1 (S : XS) (k j : Nat) (v : Option Nat) : (xR S k j v).1 = S.1 := rfl
theorem xR21 (S : XS) (k j : Nat) (v : Option Nat) : (xR S k j v).2.1 = S.2.1 := rfl
theorem xR22 (S : XS) (k j : Nat) (v : Option Nat) (k' i : Nat) : (xR S k j v).2.2.1 k' i = if k' = k then (if i = j then v else S.2.2.1 k i) else S.2.2.1 k' i := by
  show updR S.2.2.1 k (va_up (S.2.2.1 k) j v) k' i = _
  unfold updR va_up
  by_cases h : k' = k <;> simp [h]
theorem xR23 (S : XS) (k j : Nat) (v : Option Nat) : (xR S k j v).2.2.2 = S.2.2.2 := rfl
theorem xO1 (S : XS) (a : Nat) (x : XO) : (xO S a x).1 = S.1 := rfl
theorem xO21 (S : XS) (a : Nat) (x : XO) : (xO S a x).2.1 = S.2.1 := rfl
theorem xO22 (S : XS) (a : Nat) (x : XO) : (xO S a x).2.2.1 = S.2.2.1 := rfl
theorem xO23 (S : XS) (a : Nat) (x : XO) (q : Nat) : (xO S a x).2.2.2 q = if q = a then some x else S.2.2.2 q := rfl
theorem sI1 (S : MS) (k : Nat) (v : Int32) (j : Nat) : (sI S k v).1 j = if j = k then v else S.1 j := rfl
theorem sI2 (S : MS) (k : Nat) (v : Int32) : (sI S k v).2 = S.2 := rfl
theorem sA1 (S : MS) (k j : Nat) (v : Int32) : (sA S k j v).1 = S.1 := rfl
theorem sA21 (S : MS) (k j : Nat) (v : Int32) (k' i : Nat) : (sA S k j v).2.1 k' i = if k' = k then (if i = j then v else S.2.1 k i) else S.2.1 k' i := by
  show updA S.2.1 k (upd (S.2.1 k) j v) k' i = _
  unfold updA upd
  by_cases h : k' = k <;> simp [h]
theorem sA22 (S : MS) (k j : Nat) (v : Int32) : (sA S k j v).2.2 = S.2.2 := rfl
theorem sL1 (S : MS) (j : Nat) (v : Int64) : (sL S j v).1 = S.1 := rfl
theorem sL21 (S : MS) (j : Nat) (v : Int64) : (sL S j v).2.1 = S.2.1 := rfl
theorem sL22 (S : MS) (j : Nat) (v : Int64) (i : Nat) : (sL S j v).2.2 i = if i = j then v else S.2.2 i := rfl
theorem oI1 (x : XO) (k : Nat) (v : Int32) : (oI x k v).1 = x.1 := rfl
theorem oI21 (x : XO) (k : Nat) (v : Int32) (j : Nat) : (oI x k v).2.1 j = if j = k then v else x.2.1 j := rfl
theorem oI22 (x : XO) (k : Nat) (v : Int32) : (oI x k v).2.2 = x.2.2 := rfl
