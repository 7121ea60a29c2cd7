/-! PLAIN LAW: what a key does. Own text, printed by mk94.py. -/
set_option maxRecDepth 100000
theorem b2_id {α β : Type} (x : Option (α × β)) : b2 x (fun a b => some (a, b)) = x := by
  cases x with
  | none => rfl
  | some y => rfl
def KI (X0 : XS) (M0 : MS) (X : XS) (M : MS) (n : Int) : Prop := (X.1 44 = iz (mi M 39) ∧ 0 ≤ mi M 39 ∧ mi M 39 ≤ n) ∧ (∀ k : Nat, k < 24 → (k : Int) < mi M 39 → X.2.1 45 k = M.2.1 40 k) ∧ (X.2.2 = X0.2.2 ∧ (∀ k, k ≠ 44 → X.1 k = X0.1 k) ∧ ∀ k, k ≠ 45 → X.2.1 k = X0.2.1 k) ∧ (M.2.2 = M0.2.2 ∧ (∀ k, k ≠ 39 → M.1 k = M0.1 k) ∧ ∀ k, k ≠ 40 → M.2.1 k = M0.2.1 k)
def KB (X0 : XS) (M0 : MS) (a b t : Nat) (o : XO) : Prop := getO X0 a t = some o ∧ o.2.1 0 = iz b ∧ M0.2.1 38 b = iz ((t : Int) - 14) ∧ b < 50
theorem KI.g {X0 X : XS} {M0 M : MS} {n : Int} {a b t : Nat} {o : XO} (h : KI X0 M0 X M n) (k : KB X0 M0 a b t o) : getO X a t = some o := by
  have := k.1
  unfold getO at this ⊢
  rw [h.2.2.1.1]; exact this
theorem KI.k {X0 X : XS} {M0 M : MS} {n : Int} {a b t : Nat} {o : XO} (h : KI X0 M0 X M n) (k : KB X0 M0 a b t o) : M.2.1 38 (iz b).toNatClampNeg = iz ((t : Int) - 14) := by
  rw [iz_clampN (by have := k.2.2.2; omega), h.2.2.2.2.2 38 (by decide), k.2.2.1]
theorem KI.up {X0 X : XS} {M0 M : MS} {n n' : Int} (h : KI X0 M0 X M n) (k : n ≤ n') : KI X0 M0 X M n' := ⟨⟨h.1.1, h.1.2.1, by have := h.1.2.2; omega⟩, h.2⟩
theorem KI.ran {X0 X : XS} {M0 M : MS} {n : Int} (h : KI X0 M0 X M n) (hn : n ≤ 9000) (c : Int32) (hc : c.toInt8.toInt32 = c) : ∃ X' M', x_ran X c = some X' ∧ m_ran M c = some M' ∧ KI X0 M0 X' M' (n + 1) := by
  obtain ⟨⟨a1, a2, a3⟩, a4, ⟨b1, b2, b3⟩, c1, c2, c3⟩ := h
  unfold x_ran m_ran
  have e1 : iz (mi M 39) + 1 = iz (mi M 39 + 1) := by rw [show (1 : Int32) = iz 1 from rfl, iz_add]
  have e24 : (24 ≤ iz (mi M 39)) ↔ 24 ≤ mi M 39 := by rw [show (24 : Int32) = iz 24 from rfl, iz_le (by omega)]
  simp only [nm_eq]
  by_cases q : 24 ≤ mi M 39
  · refine ⟨xI X 44 (iz (mi M 39 + 1)), sI M 39 (iz (mi M 39 + 1)), iteTE (by rw [a1]; exact e24.mpr q) (by rw [a1, e1]), iteTE (by rw [mi_eq]; exact e24.mpr q) (by rw [mi_eq, e1]), ?_⟩
    have m39 : mi (sI M 39 (iz (mi M 39 + 1))) 39 = mi M 39 + 1 := by rw [mi_sI _ _ (by omega), if_pos rfl]
    refine ⟨⟨by rw [m39]; rfl, by omega, by omega⟩, fun k k1 k2 => ?_, ⟨b1, fun k hk => ?_, b3⟩, c1, fun k hk => ?_, c3⟩
    · exact a4 k k1 (by omega)
    · rw [xI1, if_neg hk]; exact b2 k hk
    · rw [sI1, if_neg hk]; exact c2 k hk
  · obtain ⟨i, hi⟩ : ∃ i : Nat, mi M 39 = i := ⟨(mi M 39).toNat, by omega⟩
    have x44 : X.1 44 = iz i := by rw [a1, hi]
    have m39' : M.1 39 = iz i := by rw [mi_eq, hi]
    rw [hi] at e1 e24 q
    refine ⟨xI (xA X 45 i c) 44 (iz (i + 1)), sI (sA M 40 i c) 39 (iz (i + 1)), iteFE (by rw [x44]; exact fun z => q (e24.mp z)) (chkE x44 (by omega) ?_), iteFE (by rw [m39']; exact fun z => q (e24.mp z)) (chkE m39' (by omega) ?_), ?_⟩
    · rw [xA1, x44, e1, hc, iz_clampN (by omega)]
    · rw [sA1, m39', e1, iz_clampN (by omega)]
    have m39 : mi (sI (sA M 40 i c) 39 (iz (i + 1))) 39 = i + 1 := by rw [mi_sI _ _ (by omega), if_pos rfl]
    refine ⟨⟨by rw [m39]; rfl, by omega, by omega⟩, fun k k1 k2 => ?_, ⟨b1, fun k hk => ?_, fun k hk => ?_⟩, c1, fun k hk => ?_, fun k hk => ?_⟩
    · show (xA X 45 i c).2.1 45 k = (sA M 40 i c).2.1 40 k
      rw [xA21, sA21, if_pos rfl, if_pos rfl]
      by_cases e : k = i
      · rw [if_pos e, if_pos e]
      · rw [if_neg e, if_neg e]; exact a4 k k1 (by omega)
    · rw [xI1, if_neg hk]; exact b2 k hk
    · rw [← b3 k hk]
      funext j
      show (xA X 45 i c).2.1 k j = _
      rw [xA21, if_neg hk]
    · rw [sI1, if_neg hk]; exact c2 k hk
    · rw [← c3 k hk]
      funext j
      show (sA M 40 i c).2.1 k j = _
      rw [sA21, if_neg hk]
theorem up_turnsIn_2 (d : Nat) (M : MS) (b p : Int32) : m_turnsBy (d + 1) M b (iz 2) p = m_turnsBy d M b (iz 0) p := by
  rw [m_turnsBy]
  exact iteFE (by decide) (iteFE (by decide) (iteFE (by decide) (bindE rfl (b2_id _))))
theorem up_turnsIn_3 (d : Nat) (M : MS) (b p : Int32) : m_turnsBy (d + 1) M b (iz 3) p = m_turnsBy d M b (iz 2) p := by
  rw [m_turnsBy]
  exact iteFE (by decide) (iteFE (by decide) (iteFE (by decide) (bindE rfl (b2_id _))))
theorem up_turnsIn_4 (d : Nat) (M : MS) (b p : Int32) : m_turnsBy (d + 1) M b (iz 4) p = m_turnsBy d M b (iz 1) p := by
  rw [m_turnsBy]
  exact iteFE (by decide) (iteFE (by decide) (iteFE (by decide) (bindE rfl (b2_id _))))
theorem up_turnsIn_5 (d : Nat) (M : MS) (b p : Int32) : m_turnsBy (d + 1) M b (iz 5) p = m_turnsBy d M b (iz 3) p := by
  rw [m_turnsBy]
  exact iteFE (by decide) (iteFE (by decide) (iteFE (by decide) (bindE rfl (b2_id _))))
theorem up_turnsIn_7 (d : Nat) (M : MS) (b p : Int32) : m_turnsBy (d + 1) M b (iz 7) p = m_turnsBy d M b (iz 4) p := by
  rw [m_turnsBy]
  exact iteFE (by decide) (iteFE (by decide) (iteFE (by decide) (bindE rfl (b2_id _))))
theorem up_sees_1 (d : Nat) (M : MS) (b p : Int32) : m_seesBy (d + 1) M b (iz 1) p = m_seesBy d M b (iz 0) p := by
  rw [m_seesBy]
  exact iteFE (by decide) (iteFE (by decide) (iteFE (by decide) (iteFE (by decide) (bindE rfl (b2_id _)))))
theorem up_sees_4 (d : Nat) (M : MS) (b p : Int32) : m_seesBy (d + 1) M b (iz 4) p = m_seesBy d M b (iz 1) p := by
  rw [m_seesBy]
  exact iteFE (by decide) (iteFE (by decide) (iteFE (by decide) (iteFE (by decide) (bindE rfl (b2_id _)))))
theorem up_sees_5 (d : Nat) (M : MS) (b p : Int32) : m_seesBy (d + 1) M b (iz 5) p = m_seesBy d M b (iz 3) p := by
  rw [m_seesBy]
  exact iteFE (by decide) (iteFE (by decide) (iteFE (by decide) (iteFE (by decide) (bindE rfl (b2_id _)))))
theorem up_sees_6 (d : Nat) (M : MS) (b p : Int32) : m_seesBy (d + 1) M b (iz 6) p = m_seesBy d M b (iz 0) p := by
  rw [m_seesBy]
  exact iteFE (by decide) (iteFE (by decide) (iteFE (by decide) (iteFE (by decide) (bindE rfl (b2_id _)))))
theorem up_fears_1 (d : Nat) (M : MS) (b p : Int32) : m_fearsBy (d + 1) M b (iz 1) p = m_fearsBy d M b (iz 0) p := by
  rw [m_fearsBy]
  exact iteFE (by decide) (iteFE (by decide) (iteFE (by decide) (bindE rfl (b2_id _))))
theorem up_fears_2 (d : Nat) (M : MS) (b p : Int32) : m_fearsBy (d + 1) M b (iz 2) p = m_fearsBy d M b (iz 0) p := by
  rw [m_fearsBy]
  exact iteFE (by decide) (iteFE (by decide) (iteFE (by decide) (bindE rfl (b2_id _))))
theorem up_fears_5 (d : Nat) (M : MS) (b p : Int32) : m_fearsBy (d + 1) M b (iz 5) p = m_fearsBy d M b (iz 3) p := by
  rw [m_fearsBy]
  exact iteFE (by decide) (iteFE (by decide) (iteFE (by decide) (bindE rfl (b2_id _))))
theorem up_fears_6 (d : Nat) (M : MS) (b p : Int32) : m_fearsBy (d + 1) M b (iz 6) p = m_fearsBy d M b (iz 0) p := by
  rw [m_fearsBy]
  exact iteFE (by decide) (iteFE (by decide) (iteFE (by decide) (bindE rfl (b2_id _))))
theorem up_fears_7 (d : Nat) (M : MS) (b p : Int32) : m_fearsBy (d + 1) M b (iz 7) p = m_fearsBy d M b (iz 4) p := by
  rw [m_fearsBy]
  exact iteFE (by decide) (iteFE (by decide) (iteFE (by decide) (bindE rfl (b2_id _))))
theorem up_tells_1 (d : Nat) (M : MS) (b p : Int32) : m_tells (d + 1) M b (iz 1) p = m_tells d M b (iz 0) p := by
  rw [m_tells]
  exact iteFE (by decide) (iteFE (by decide) (iteFE (by decide) (bindE rfl (b2_id _))))
theorem up_tells_2 (d : Nat) (M : MS) (b p : Int32) : m_tells (d + 1) M b (iz 2) p = m_tells d M b (iz 0) p := by
  rw [m_tells]
  exact iteFE (by decide) (iteFE (by decide) (iteFE (by decide) (bindE rfl (b2_id _))))
theorem up_tells_3 (d : Nat) (M : MS) (b p : Int32) : m_tells (d + 1) M b (iz 3) p = m_tells d M b (iz 2) p := by
  rw [m_tells]
  exact iteFE (by decide) (iteFE (by decide) (iteFE (by decide) (bindE rfl (b2_id _))))
theorem up_tells_4 (d : Nat) (M : MS) (b p : Int32) : m_tells (d + 1) M b (iz 4) p = m_tells d M b (iz 1) p := by
  rw [m_tells]
  exact iteFE (by decide) (iteFE (by decide) (iteFE (by decide) (bindE rfl (b2_id _))))
theorem up_tells_6 (d : Nat) (M : MS) (b p : Int32) : m_tells (d + 1) M b (iz 6) p = m_tells d M b (iz 0) p := by
  rw [m_tells]
  exact iteFE (by decide) (iteFE (by decide) (iteFE (by decide) (bindE rfl (b2_id _))))
theorem A14_14_turnsIn {X0 : XS} {M0 : MS} {a b : Nat} {o : XO} (K : KB X0 M0 a b 14 o) (d : Nat) {n : Int} (hn : n + 1 ≤ 9000) {X : XS} {M : MS} (h : KI X0 M0 X M n) (p : Int32) : ∃ v X' M', k14_14_turnsIn X a p = some (v, X') ∧ m_turnsBy (d + 1) M (iz b) (iz 0) p = some (v, M') ∧ KI X0 M0 X' M' (n + 1) := by
  have b50 := K.2.2.2
  obtain ⟨X1, M1, e1, f1, i1⟩ := h.ran (by omega) 1 rfl
  refine ⟨p + iz b, X1, M1, ?_, ?_, i1.up (by omega)⟩
  · unfold k14_14_turnsIn
    exact bindE (h.g K) (bindE e1 (bindE (i1.g K) (by rw [K.2.1])))
  · rw [show d + 1 = (d + 0) + 1 from rfl, m_turnsBy]
    exact iteTE rfl (bindE f1 rfl)
theorem A14_14_sees {X0 : XS} {M0 : MS} {a b : Nat} {o : XO} (K : KB X0 M0 a b 14 o) (d : Nat) {n : Int} (hn : n + 2 ≤ 9000) {X : XS} {M : MS} (h : KI X0 M0 X M n) (p : Int32) : ∃ v X' M', k14_14_sees X a p = some (v, X') ∧ m_seesBy (d + 1) M (iz b) (iz 0) p = some (v, M') ∧ KI X0 M0 X' M' (n + 2) := by
  have b50 := K.2.2.2
  obtain ⟨X1, M1, e1, f1, i1⟩ := h.ran (by omega) 10 rfl
  obtain ⟨v0, X2, M2, e2, f2, i2⟩ := A14_14_turnsIn K (9) (by omega) i1 p
  refine ⟨v0 * 2, X2, M2, ?_, ?_, i2.up (by omega)⟩
  · unfold k14_14_sees
    exact bindE (h.g K) (bindE e1 (bindE (i1.g K) (b2E e2 (rfl))))
  · rw [show d + 1 = (d + 0) + 1 from rfl, m_seesBy]
    exact iteTE rfl (bindE f1 (chkE rfl (by omega) (b2E (by rw [i1.k K]; exact f2) (rfl))))
theorem A14_14_fears {X0 : XS} {M0 : MS} {a b : Nat} {o : XO} (K : KB X0 M0 a b 14 o) (d : Nat) {n : Int} (hn : n + 1 ≤ 9000) {X : XS} {M : MS} (h : KI X0 M0 X M n) (p : Int32) : ∃ v X' M', k14_14_fears X a p = some (v, X') ∧ m_fearsBy (d + 1) M (iz b) (iz 0) p = some (v, M') ∧ KI X0 M0 X' M' (n + 1) := by
  have b50 := K.2.2.2
  obtain ⟨X1, M1, e1, f1, i1⟩ := h.ran (by omega) 11 rfl
  refine ⟨p ^^^ iz b, X1, M1, ?_, ?_, i1.up (by omega)⟩
  · unfold k14_14_fears
    exact bindE (h.g K) (bindE e1 (bindE (i1.g K) (by rw [K.2.1])))
  · rw [show d + 1 = (d + 0) + 1 from rfl, m_fearsBy]
    exact iteTE rfl (bindE f1 rfl)
theorem A14_14_tells {X0 : XS} {M0 : MS} {a b : Nat} {o : XO} (K : KB X0 M0 a b 14 o) (d : Nat) {n : Int} (hn : n + 4 ≤ 9000) {X : XS} {M : MS} (h : KI X0 M0 X M n) (p : Int32) : ∃ v X' M', k14_14_tells X a p = some (v, X') ∧ m_tells (d + 1) M (iz b) (iz 0) p = some (v, M') ∧ KI X0 M0 X' M' (n + 4) := by
  have b50 := K.2.2.2
  obtain ⟨X1, M1, e1, f1, i1⟩ := h.ran (by omega) 2 rfl
  obtain ⟨v0, X2, M2, e2, f2, i2⟩ := A14_14_sees K (9) (by omega) i1 p
  obtain ⟨v1, X3, M3, e3, f3, i3⟩ := A14_14_fears K (9) (by omega) i2 1
  refine ⟨v0 - v1, X3, M3, ?_, ?_, i3.up (by omega)⟩
  · unfold k14_14_tells
    exact bindE (h.g K) (bindE e1 (bindE (i1.g K) (b2E e2 (bindE (i2.g K) (b2E e3 (rfl))))))
  · rw [show d + 1 = (d + 0) + 1 from rfl, m_tells]
    exact iteTE rfl (bindE f1 (chkE rfl (by omega) (b2E (by rw [i1.k K]; exact f2) (chkE rfl (by omega) (b2E (by rw [i2.k K]; exact f3) (rfl))))))
theorem A15_14_turnsIn {X0 : XS} {M0 : MS} {a b : Nat} {o : XO} (K : KB X0 M0 a b 15 o) (d : Nat) {n : Int} (hn : n + 1 ≤ 9000) {X : XS} {M : MS} (h : KI X0 M0 X M n) (p : Int32) : ∃ v X' M', k15_14_turnsIn X a p = some (v, X') ∧ m_turnsBy (d + 1) M (iz b) (iz 0) p = some (v, M') ∧ KI X0 M0 X' M' (n + 1) := by
  have b50 := K.2.2.2
  obtain ⟨X1, M1, e1, f1, i1⟩ := h.ran (by omega) 1 rfl
  refine ⟨p + iz b, X1, M1, ?_, ?_, i1.up (by omega)⟩
  · unfold k15_14_turnsIn
    exact bindE (h.g K) (bindE e1 (bindE (i1.g K) (by rw [K.2.1])))
  · rw [show d + 1 = (d + 0) + 1 from rfl, m_turnsBy]
    exact iteTE rfl (bindE f1 rfl)
theorem A15_15_turnsIn {X0 : XS} {M0 : MS} {a b : Nat} {o : XO} (K : KB X0 M0 a b 15 o) (d : Nat) {n : Int} (hn : n + 2 ≤ 9000) {X : XS} {M : MS} (h : KI X0 M0 X M n) (p : Int32) : ∃ v X' M', k15_15_turnsIn X a p = some (v, X') ∧ m_turnsBy (d + 2) M (iz b) (iz 1) p = some (v, M') ∧ KI X0 M0 X' M' (n + 2) := by
  have b50 := K.2.2.2
  obtain ⟨X1, M1, e1, f1, i1⟩ := h.ran (by omega) 20 rfl
  obtain ⟨v0, X2, M2, e2, f2, i2⟩ := A15_14_turnsIn K (d + 0) (by omega) i1 p
  refine ⟨v0 + 3, X2, M2, ?_, ?_, i2.up (by omega)⟩
  · unfold k15_15_turnsIn
    exact bindE (h.g K) (bindE e1 (bindE (i1.g K) (b2E e2 (rfl))))
  · rw [show d + 2 = (d + 1) + 1 from rfl, m_turnsBy]
    exact iteFE (by decide) (iteTE rfl (bindE f1 (b2E (f2) (rfl))))
theorem A15_14_sees {X0 : XS} {M0 : MS} {a b : Nat} {o : XO} (K : KB X0 M0 a b 15 o) (d : Nat) {n : Int} (hn : n + 3 ≤ 9000) {X : XS} {M : MS} (h : KI X0 M0 X M n) (p : Int32) : ∃ v X' M', k15_14_sees X a p = some (v, X') ∧ m_seesBy (d + 1) M (iz b) (iz 0) p = some (v, M') ∧ KI X0 M0 X' M' (n + 3) := by
  have b50 := K.2.2.2
  obtain ⟨X1, M1, e1, f1, i1⟩ := h.ran (by omega) 10 rfl
  obtain ⟨v0, X2, M2, e2, f2, i2⟩ := A15_15_turnsIn K (8) (by omega) i1 p
  refine ⟨v0 * 2, X2, M2, ?_, ?_, i2.up (by omega)⟩
  · unfold k15_14_sees
    exact bindE (h.g K) (bindE e1 (bindE (i1.g K) (b2E e2 (rfl))))
  · rw [show d + 1 = (d + 0) + 1 from rfl, m_seesBy]
    exact iteTE rfl (bindE f1 (chkE rfl (by omega) (b2E (by rw [i1.k K]; exact f2) (rfl))))
theorem A15_14_fears {X0 : XS} {M0 : MS} {a b : Nat} {o : XO} (K : KB X0 M0 a b 15 o) (d : Nat) {n : Int} (hn : n + 1 ≤ 9000) {X : XS} {M : MS} (h : KI X0 M0 X M n) (p : Int32) : ∃ v X' M', k15_14_fears X a p = some (v, X') ∧ m_fearsBy (d + 1) M (iz b) (iz 0) p = some (v, M') ∧ KI X0 M0 X' M' (n + 1) := by
  have b50 := K.2.2.2
  obtain ⟨X1, M1, e1, f1, i1⟩ := h.ran (by omega) 11 rfl
  refine ⟨p ^^^ iz b, X1, M1, ?_, ?_, i1.up (by omega)⟩
  · unfold k15_14_fears
    exact bindE (h.g K) (bindE e1 (bindE (i1.g K) (by rw [K.2.1])))
  · rw [show d + 1 = (d + 0) + 1 from rfl, m_fearsBy]
    exact iteTE rfl (bindE f1 rfl)
theorem A15_14_tells {X0 : XS} {M0 : MS} {a b : Nat} {o : XO} (K : KB X0 M0 a b 15 o) (d : Nat) {n : Int} (hn : n + 5 ≤ 9000) {X : XS} {M : MS} (h : KI X0 M0 X M n) (p : Int32) : ∃ v X' M', k15_14_tells X a p = some (v, X') ∧ m_tells (d + 1) M (iz b) (iz 0) p = some (v, M') ∧ KI X0 M0 X' M' (n + 5) := by
  have b50 := K.2.2.2
  obtain ⟨X1, M1, e1, f1, i1⟩ := h.ran (by omega) 2 rfl
  obtain ⟨v0, X2, M2, e2, f2, i2⟩ := A15_14_sees K (8) (by omega) i1 p
  obtain ⟨v1, X3, M3, e3, f3, i3⟩ := A15_14_fears K (8) (by omega) i2 1
  refine ⟨v0 - v1, X3, M3, ?_, ?_, i3.up (by omega)⟩
  · unfold k15_14_tells
    exact bindE (h.g K) (bindE e1 (bindE (i1.g K) (b2E e2 (bindE (i2.g K) (b2E e3 (rfl))))))
  · rw [show d + 1 = (d + 0) + 1 from rfl, m_tells]
    exact iteTE rfl (bindE f1 (chkE rfl (by omega) (b2E (by rw [i1.k K]; exact (up_sees_1 _ _ _ _).trans (f2)) (chkE rfl (by omega) (b2E (by rw [i2.k K]; exact (up_fears_1 _ _ _ _).trans (f3)) (rfl))))))
theorem A16_14_turnsIn {X0 : XS} {M0 : MS} {a b : Nat} {o : XO} (K : KB X0 M0 a b 16 o) (d : Nat) {n : Int} (hn : n + 1 ≤ 9000) {X : XS} {M : MS} (h : KI X0 M0 X M n) (p : Int32) : ∃ v X' M', k16_14_turnsIn X a p = some (v, X') ∧ m_turnsBy (d + 1) M (iz b) (iz 0) p = some (v, M') ∧ KI X0 M0 X' M' (n + 1) := by
  have b50 := K.2.2.2
  obtain ⟨X1, M1, e1, f1, i1⟩ := h.ran (by omega) 1 rfl
  refine ⟨p + iz b, X1, M1, ?_, ?_, i1.up (by omega)⟩
  · unfold k16_14_turnsIn
    exact bindE (h.g K) (bindE e1 (bindE (i1.g K) (by rw [K.2.1])))
  · rw [show d + 1 = (d + 0) + 1 from rfl, m_turnsBy]
    exact iteTE rfl (bindE f1 rfl)
theorem A16_14_sees {X0 : XS} {M0 : MS} {a b : Nat} {o : XO} (K : KB X0 M0 a b 16 o) (d : Nat) {n : Int} (hn : n + 2 ≤ 9000) {X : XS} {M : MS} (h : KI X0 M0 X M n) (p : Int32) : ∃ v X' M', k16_14_sees X a p = some (v, X') ∧ m_seesBy (d + 1) M (iz b) (iz 0) p = some (v, M') ∧ KI X0 M0 X' M' (n + 2) := by
  have b50 := K.2.2.2
  obtain ⟨X1, M1, e1, f1, i1⟩ := h.ran (by omega) 10 rfl
  obtain ⟨v0, X2, M2, e2, f2, i2⟩ := A16_14_turnsIn K (8) (by omega) i1 p
  refine ⟨v0 * 2, X2, M2, ?_, ?_, i2.up (by omega)⟩
  · unfold k16_14_sees
    exact bindE (h.g K) (bindE e1 (bindE (i1.g K) (b2E e2 (rfl))))
  · rw [show d + 1 = (d + 0) + 1 from rfl, m_seesBy]
    exact iteTE rfl (bindE f1 (chkE rfl (by omega) (b2E (by rw [i1.k K]; exact (up_turnsIn_2 _ _ _ _).trans (f2)) (rfl))))
theorem A16_16_sees {X0 : XS} {M0 : MS} {a b : Nat} {o : XO} (K : KB X0 M0 a b 16 o) (d : Nat) {n : Int} (hn : n + 3 ≤ 9000) {X : XS} {M : MS} (h : KI X0 M0 X M n) (p : Int32) : ∃ v X' M', k16_16_sees X a p = some (v, X') ∧ m_seesBy (d + 2) M (iz b) (iz 2) p = some (v, M') ∧ KI X0 M0 X' M' (n + 3) := by
  have b50 := K.2.2.2
  obtain ⟨X1, M1, e1, f1, i1⟩ := h.ran (by omega) 30 rfl
  obtain ⟨v0, X2, M2, e2, f2, i2⟩ := A16_14_sees K (d + 0) (by omega) i1 p
  refine ⟨-v0, X2, M2, ?_, ?_, i2.up (by omega)⟩
  · unfold k16_16_sees
    exact bindE (h.g K) (bindE e1 (bindE (i1.g K) (b2E e2 (rfl))))
  · rw [show d + 2 = (d + 1) + 1 from rfl, m_seesBy]
    exact iteFE (by decide) (iteTE rfl (bindE f1 (b2E (f2) (rfl))))
theorem A16_14_fears {X0 : XS} {M0 : MS} {a b : Nat} {o : XO} (K : KB X0 M0 a b 16 o) (d : Nat) {n : Int} (hn : n + 1 ≤ 9000) {X : XS} {M : MS} (h : KI X0 M0 X M n) (p : Int32) : ∃ v X' M', k16_14_fears X a p = some (v, X') ∧ m_fearsBy (d + 1) M (iz b) (iz 0) p = some (v, M') ∧ KI X0 M0 X' M' (n + 1) := by
  have b50 := K.2.2.2
  obtain ⟨X1, M1, e1, f1, i1⟩ := h.ran (by omega) 11 rfl
  refine ⟨p ^^^ iz b, X1, M1, ?_, ?_, i1.up (by omega)⟩
  · unfold k16_14_fears
    exact bindE (h.g K) (bindE e1 (bindE (i1.g K) (by rw [K.2.1])))
  · rw [show d + 1 = (d + 0) + 1 from rfl, m_fearsBy]
    exact iteTE rfl (bindE f1 rfl)
theorem A16_14_tells {X0 : XS} {M0 : MS} {a b : Nat} {o : XO} (K : KB X0 M0 a b 16 o) (d : Nat) {n : Int} (hn : n + 5 ≤ 9000) {X : XS} {M : MS} (h : KI X0 M0 X M n) (p : Int32) : ∃ v X' M', k16_14_tells X a p = some (v, X') ∧ m_tells (d + 1) M (iz b) (iz 0) p = some (v, M') ∧ KI X0 M0 X' M' (n + 5) := by
  have b50 := K.2.2.2
  obtain ⟨X1, M1, e1, f1, i1⟩ := h.ran (by omega) 2 rfl
  obtain ⟨v0, X2, M2, e2, f2, i2⟩ := A16_16_sees K (8) (by omega) i1 p
  obtain ⟨v1, X3, M3, e3, f3, i3⟩ := A16_14_fears K (8) (by omega) i2 1
  refine ⟨v0 - v1, X3, M3, ?_, ?_, i3.up (by omega)⟩
  · unfold k16_14_tells
    exact bindE (h.g K) (bindE e1 (bindE (i1.g K) (b2E e2 (bindE (i2.g K) (b2E e3 (rfl))))))
  · rw [show d + 1 = (d + 0) + 1 from rfl, m_tells]
    exact iteTE rfl (bindE f1 (chkE rfl (by omega) (b2E (by rw [i1.k K]; exact f2) (chkE rfl (by omega) (b2E (by rw [i2.k K]; exact (up_fears_2 _ _ _ _).trans (f3)) (rfl))))))
theorem A17_14_turnsIn {X0 : XS} {M0 : MS} {a b : Nat} {o : XO} (K : KB X0 M0 a b 17 o) (d : Nat) {n : Int} (hn : n + 1 ≤ 9000) {X : XS} {M : MS} (h : KI X0 M0 X M n) (p : Int32) : ∃ v X' M', k17_14_turnsIn X a p = some (v, X') ∧ m_turnsBy (d + 1) M (iz b) (iz 0) p = some (v, M') ∧ KI X0 M0 X' M' (n + 1) := by
  have b50 := K.2.2.2
  obtain ⟨X1, M1, e1, f1, i1⟩ := h.ran (by omega) 1 rfl
  refine ⟨p + iz b, X1, M1, ?_, ?_, i1.up (by omega)⟩
  · unfold k17_14_turnsIn
    exact bindE (h.g K) (bindE e1 (bindE (i1.g K) (by rw [K.2.1])))
  · rw [show d + 1 = (d + 0) + 1 from rfl, m_turnsBy]
    exact iteTE rfl (bindE f1 rfl)
theorem A17_14_sees {X0 : XS} {M0 : MS} {a b : Nat} {o : XO} (K : KB X0 M0 a b 17 o) (d : Nat) {n : Int} (hn : n + 2 ≤ 9000) {X : XS} {M : MS} (h : KI X0 M0 X M n) (p : Int32) : ∃ v X' M', k17_14_sees X a p = some (v, X') ∧ m_seesBy (d + 1) M (iz b) (iz 0) p = some (v, M') ∧ KI X0 M0 X' M' (n + 2) := by
  have b50 := K.2.2.2
  obtain ⟨X1, M1, e1, f1, i1⟩ := h.ran (by omega) 10 rfl
  obtain ⟨v0, X2, M2, e2, f2, i2⟩ := A17_14_turnsIn K (7) (by omega) i1 p
  refine ⟨v0 * 2, X2, M2, ?_, ?_, i2.up (by omega)⟩
  · unfold k17_14_sees
    exact bindE (h.g K) (bindE e1 (bindE (i1.g K) (b2E e2 (rfl))))
  · rw [show d + 1 = (d + 0) + 1 from rfl, m_seesBy]
    exact iteTE rfl (bindE f1 (chkE rfl (by omega) (b2E (by rw [i1.k K]; exact (up_turnsIn_3 _ _ _ _).trans ((up_turnsIn_2 _ _ _ _).trans (f2))) (rfl))))
theorem A17_16_sees {X0 : XS} {M0 : MS} {a b : Nat} {o : XO} (K : KB X0 M0 a b 17 o) (d : Nat) {n : Int} (hn : n + 3 ≤ 9000) {X : XS} {M : MS} (h : KI X0 M0 X M n) (p : Int32) : ∃ v X' M', k17_16_sees X a p = some (v, X') ∧ m_seesBy (d + 2) M (iz b) (iz 2) p = some (v, M') ∧ KI X0 M0 X' M' (n + 3) := by
  have b50 := K.2.2.2
  obtain ⟨X1, M1, e1, f1, i1⟩ := h.ran (by omega) 30 rfl
  obtain ⟨v0, X2, M2, e2, f2, i2⟩ := A17_14_sees K (d + 0) (by omega) i1 p
  refine ⟨-v0, X2, M2, ?_, ?_, i2.up (by omega)⟩
  · unfold k17_16_sees
    exact bindE (h.g K) (bindE e1 (bindE (i1.g K) (b2E e2 (rfl))))
  · rw [show d + 2 = (d + 1) + 1 from rfl, m_seesBy]
    exact iteFE (by decide) (iteTE rfl (bindE f1 (b2E (f2) (rfl))))
theorem A17_17_sees {X0 : XS} {M0 : MS} {a b : Nat} {o : XO} (K : KB X0 M0 a b 17 o) (d : Nat) {n : Int} (hn : n + 4 ≤ 9000) {X : XS} {M : MS} (h : KI X0 M0 X M n) (p : Int32) : ∃ v X' M', k17_17_sees X a p = some (v, X') ∧ m_seesBy (d + 3) M (iz b) (iz 3) p = some (v, M') ∧ KI X0 M0 X' M' (n + 4) := by
  have b50 := K.2.2.2
  obtain ⟨X1, M1, e1, f1, i1⟩ := h.ran (by omega) 41 rfl
  obtain ⟨v0, X2, M2, e2, f2, i2⟩ := A17_16_sees K (d + 0) (by omega) i1 (p + 1)
  refine ⟨v0, X2, M2, ?_, ?_, i2.up (by omega)⟩
  · unfold k17_17_sees
    exact bindE (h.g K) (bindE e1 (bindE (i1.g K) (b2E e2 (rfl))))
  · rw [show d + 3 = (d + 2) + 1 from rfl, m_seesBy]
    exact iteFE (by decide) (iteFE (by decide) (iteTE rfl (bindE f1 (b2E (f2) (rfl)))))
theorem A17_14_fears {X0 : XS} {M0 : MS} {a b : Nat} {o : XO} (K : KB X0 M0 a b 17 o) (d : Nat) {n : Int} (hn : n + 1 ≤ 9000) {X : XS} {M : MS} (h : KI X0 M0 X M n) (p : Int32) : ∃ v X' M', k17_14_fears X a p = some (v, X') ∧ m_fearsBy (d + 1) M (iz b) (iz 0) p = some (v, M') ∧ KI X0 M0 X' M' (n + 1) := by
  have b50 := K.2.2.2
  obtain ⟨X1, M1, e1, f1, i1⟩ := h.ran (by omega) 11 rfl
  refine ⟨p ^^^ iz b, X1, M1, ?_, ?_, i1.up (by omega)⟩
  · unfold k17_14_fears
    exact bindE (h.g K) (bindE e1 (bindE (i1.g K) (by rw [K.2.1])))
  · rw [show d + 1 = (d + 0) + 1 from rfl, m_fearsBy]
    exact iteTE rfl (bindE f1 rfl)
theorem A17_17_fears {X0 : XS} {M0 : MS} {a b : Nat} {o : XO} (K : KB X0 M0 a b 17 o) (d : Nat) {n : Int} (hn : n + 2 ≤ 9000) {X : XS} {M : MS} (h : KI X0 M0 X M n) (p : Int32) : ∃ v X' M', k17_17_fears X a p = some (v, X') ∧ m_fearsBy (d + 3) M (iz b) (iz 3) p = some (v, M') ∧ KI X0 M0 X' M' (n + 2) := by
  have b50 := K.2.2.2
  obtain ⟨X1, M1, e1, f1, i1⟩ := h.ran (by omega) 40 rfl
  obtain ⟨v0, X2, M2, e2, f2, i2⟩ := A17_14_fears K (d + 0) (by omega) i1 p
  refine ⟨v0 * 3, X2, M2, ?_, ?_, i2.up (by omega)⟩
  · unfold k17_17_fears
    exact bindE (h.g K) (bindE e1 (bindE (i1.g K) (b2E e2 (rfl))))
  · rw [show d + 3 = (d + 2) + 1 from rfl, m_fearsBy]
    exact iteFE (by decide) (iteTE rfl (bindE f1 (b2E ((up_fears_2 _ _ _ _).trans (f2)) (rfl))))
theorem A17_14_tells {X0 : XS} {M0 : MS} {a b : Nat} {o : XO} (K : KB X0 M0 a b 17 o) (d : Nat) {n : Int} (hn : n + 7 ≤ 9000) {X : XS} {M : MS} (h : KI X0 M0 X M n) (p : Int32) : ∃ v X' M', k17_14_tells X a p = some (v, X') ∧ m_tells (d + 1) M (iz b) (iz 0) p = some (v, M') ∧ KI X0 M0 X' M' (n + 7) := by
  have b50 := K.2.2.2
  obtain ⟨X1, M1, e1, f1, i1⟩ := h.ran (by omega) 2 rfl
  obtain ⟨v0, X2, M2, e2, f2, i2⟩ := A17_17_sees K (7) (by omega) i1 p
  obtain ⟨v1, X3, M3, e3, f3, i3⟩ := A17_17_fears K (7) (by omega) i2 1
  refine ⟨v0 - v1, X3, M3, ?_, ?_, i3.up (by omega)⟩
  · unfold k17_14_tells
    exact bindE (h.g K) (bindE e1 (bindE (i1.g K) (b2E e2 (bindE (i2.g K) (b2E e3 (rfl))))))
  · rw [show d + 1 = (d + 0) + 1 from rfl, m_tells]
    exact iteTE rfl (bindE f1 (chkE rfl (by omega) (b2E (by rw [i1.k K]; exact f2) (chkE rfl (by omega) (b2E (by rw [i2.k K]; exact f3) (rfl))))))
theorem A18_14_turnsIn {X0 : XS} {M0 : MS} {a b : Nat} {o : XO} (K : KB X0 M0 a b 18 o) (d : Nat) {n : Int} (hn : n + 1 ≤ 9000) {X : XS} {M : MS} (h : KI X0 M0 X M n) (p : Int32) : ∃ v X' M', k18_14_turnsIn X a p = some (v, X') ∧ m_turnsBy (d + 1) M (iz b) (iz 0) p = some (v, M') ∧ KI X0 M0 X' M' (n + 1) := by
  have b50 := K.2.2.2
  obtain ⟨X1, M1, e1, f1, i1⟩ := h.ran (by omega) 1 rfl
  refine ⟨p + iz b, X1, M1, ?_, ?_, i1.up (by omega)⟩
  · unfold k18_14_turnsIn
    exact bindE (h.g K) (bindE e1 (bindE (i1.g K) (by rw [K.2.1])))
  · rw [show d + 1 = (d + 0) + 1 from rfl, m_turnsBy]
    exact iteTE rfl (bindE f1 rfl)
theorem A18_15_turnsIn {X0 : XS} {M0 : MS} {a b : Nat} {o : XO} (K : KB X0 M0 a b 18 o) (d : Nat) {n : Int} (hn : n + 2 ≤ 9000) {X : XS} {M : MS} (h : KI X0 M0 X M n) (p : Int32) : ∃ v X' M', k18_15_turnsIn X a p = some (v, X') ∧ m_turnsBy (d + 2) M (iz b) (iz 1) p = some (v, M') ∧ KI X0 M0 X' M' (n + 2) := by
  have b50 := K.2.2.2
  obtain ⟨X1, M1, e1, f1, i1⟩ := h.ran (by omega) 20 rfl
  obtain ⟨v0, X2, M2, e2, f2, i2⟩ := A18_14_turnsIn K (d + 0) (by omega) i1 p
  refine ⟨v0 + 3, X2, M2, ?_, ?_, i2.up (by omega)⟩
  · unfold k18_15_turnsIn
    exact bindE (h.g K) (bindE e1 (bindE (i1.g K) (b2E e2 (rfl))))
  · rw [show d + 2 = (d + 1) + 1 from rfl, m_turnsBy]
    exact iteFE (by decide) (iteTE rfl (bindE f1 (b2E (f2) (rfl))))
theorem A18_14_sees {X0 : XS} {M0 : MS} {a b : Nat} {o : XO} (K : KB X0 M0 a b 18 o) (d : Nat) {n : Int} (hn : n + 3 ≤ 9000) {X : XS} {M : MS} (h : KI X0 M0 X M n) (p : Int32) : ∃ v X' M', k18_14_sees X a p = some (v, X') ∧ m_seesBy (d + 1) M (iz b) (iz 0) p = some (v, M') ∧ KI X0 M0 X' M' (n + 3) := by
  have b50 := K.2.2.2
  obtain ⟨X1, M1, e1, f1, i1⟩ := h.ran (by omega) 10 rfl
  obtain ⟨v0, X2, M2, e2, f2, i2⟩ := A18_15_turnsIn K (7) (by omega) i1 p
  refine ⟨v0 * 2, X2, M2, ?_, ?_, i2.up (by omega)⟩
  · unfold k18_14_sees
    exact bindE (h.g K) (bindE e1 (bindE (i1.g K) (b2E e2 (rfl))))
  · rw [show d + 1 = (d + 0) + 1 from rfl, m_seesBy]
    exact iteTE rfl (bindE f1 (chkE rfl (by omega) (b2E (by rw [i1.k K]; exact (up_turnsIn_4 _ _ _ _).trans (f2)) (rfl))))
theorem A18_14_fears {X0 : XS} {M0 : MS} {a b : Nat} {o : XO} (K : KB X0 M0 a b 18 o) (d : Nat) {n : Int} (hn : n + 1 ≤ 9000) {X : XS} {M : MS} (h : KI X0 M0 X M n) (p : Int32) : ∃ v X' M', k18_14_fears X a p = some (v, X') ∧ m_fearsBy (d + 1) M (iz b) (iz 0) p = some (v, M') ∧ KI X0 M0 X' M' (n + 1) := by
  have b50 := K.2.2.2
  obtain ⟨X1, M1, e1, f1, i1⟩ := h.ran (by omega) 11 rfl
  refine ⟨p ^^^ iz b, X1, M1, ?_, ?_, i1.up (by omega)⟩
  · unfold k18_14_fears
    exact bindE (h.g K) (bindE e1 (bindE (i1.g K) (by rw [K.2.1])))
  · rw [show d + 1 = (d + 0) + 1 from rfl, m_fearsBy]
    exact iteTE rfl (bindE f1 rfl)
theorem A18_18_fears {X0 : XS} {M0 : MS} {a b : Nat} {o : XO} (K : KB X0 M0 a b 18 o) (d : Nat) {n : Int} (hn : n + 4 ≤ 9000) {X : XS} {M : MS} (h : KI X0 M0 X M n) (p : Int32) : ∃ v X' M', k18_18_fears X a p = some (v, X') ∧ m_fearsBy (d + 3) M (iz b) (iz 4) p = some (v, M') ∧ KI X0 M0 X' M' (n + 4) := by
  have b50 := K.2.2.2
  obtain ⟨X1, M1, e1, f1, i1⟩ := h.ran (by omega) 50 rfl
  obtain ⟨v0, X2, M2, e2, f2, i2⟩ := A18_14_fears K (d + 0) (by omega) i1 p
  obtain ⟨v1, X3, M3, e3, f3, i3⟩ := A18_15_turnsIn K (7) (by omega) i2 2
  refine ⟨v0 - v1, X3, M3, ?_, ?_, i3.up (by omega)⟩
  · unfold k18_18_fears
    exact bindE (h.g K) (bindE e1 (bindE (i1.g K) (b2E e2 (bindE (i2.g K) (b2E e3 (rfl))))))
  · rw [show d + 3 = (d + 2) + 1 from rfl, m_fearsBy]
    exact iteFE (by decide) (iteFE (by decide) (iteTE rfl (bindE f1 (b2E ((up_fears_1 _ _ _ _).trans (f2)) (chkE rfl (by omega) (b2E (by rw [i2.k K]; exact (up_turnsIn_4 _ _ _ _).trans (f3)) (rfl)))))))
theorem A18_14_tells {X0 : XS} {M0 : MS} {a b : Nat} {o : XO} (K : KB X0 M0 a b 18 o) (d : Nat) {n : Int} (hn : n + 8 ≤ 9000) {X : XS} {M : MS} (h : KI X0 M0 X M n) (p : Int32) : ∃ v X' M', k18_14_tells X a p = some (v, X') ∧ m_tells (d + 1) M (iz b) (iz 0) p = some (v, M') ∧ KI X0 M0 X' M' (n + 8) := by
  have b50 := K.2.2.2
  obtain ⟨X1, M1, e1, f1, i1⟩ := h.ran (by omega) 2 rfl
  obtain ⟨v0, X2, M2, e2, f2, i2⟩ := A18_14_sees K (7) (by omega) i1 p
  obtain ⟨v1, X3, M3, e3, f3, i3⟩ := A18_18_fears K (7) (by omega) i2 1
  refine ⟨v0 - v1, X3, M3, ?_, ?_, i3.up (by omega)⟩
  · unfold k18_14_tells
    exact bindE (h.g K) (bindE e1 (bindE (i1.g K) (b2E e2 (bindE (i2.g K) (b2E e3 (rfl))))))
  · rw [show d + 1 = (d + 0) + 1 from rfl, m_tells]
    exact iteTE rfl (bindE f1 (chkE rfl (by omega) (b2E (by rw [i1.k K]; exact (up_sees_4 _ _ _ _).trans ((up_sees_1 _ _ _ _).trans (f2))) (chkE rfl (by omega) (b2E (by rw [i2.k K]; exact f3) (rfl))))))
theorem A19_14_turnsIn {X0 : XS} {M0 : MS} {a b : Nat} {o : XO} (K : KB X0 M0 a b 19 o) (d : Nat) {n : Int} (hn : n + 1 ≤ 9000) {X : XS} {M : MS} (h : KI X0 M0 X M n) (p : Int32) : ∃ v X' M', k19_14_turnsIn X a p = some (v, X') ∧ m_turnsBy (d + 1) M (iz b) (iz 0) p = some (v, M') ∧ KI X0 M0 X' M' (n + 1) := by
  have b50 := K.2.2.2
  obtain ⟨X1, M1, e1, f1, i1⟩ := h.ran (by omega) 1 rfl
  refine ⟨p + iz b, X1, M1, ?_, ?_, i1.up (by omega)⟩
  · unfold k19_14_turnsIn
    exact bindE (h.g K) (bindE e1 (bindE (i1.g K) (by rw [K.2.1])))
  · rw [show d + 1 = (d + 0) + 1 from rfl, m_turnsBy]
    exact iteTE rfl (bindE f1 rfl)
theorem A19_14_sees {X0 : XS} {M0 : MS} {a b : Nat} {o : XO} (K : KB X0 M0 a b 19 o) (d : Nat) {n : Int} (hn : n + 2 ≤ 9000) {X : XS} {M : MS} (h : KI X0 M0 X M n) (p : Int32) : ∃ v X' M', k19_14_sees X a p = some (v, X') ∧ m_seesBy (d + 1) M (iz b) (iz 0) p = some (v, M') ∧ KI X0 M0 X' M' (n + 2) := by
  have b50 := K.2.2.2
  obtain ⟨X1, M1, e1, f1, i1⟩ := h.ran (by omega) 10 rfl
  obtain ⟨v0, X2, M2, e2, f2, i2⟩ := A19_14_turnsIn K (6) (by omega) i1 p
  refine ⟨v0 * 2, X2, M2, ?_, ?_, i2.up (by omega)⟩
  · unfold k19_14_sees
    exact bindE (h.g K) (bindE e1 (bindE (i1.g K) (b2E e2 (rfl))))
  · rw [show d + 1 = (d + 0) + 1 from rfl, m_seesBy]
    exact iteTE rfl (bindE f1 (chkE rfl (by omega) (b2E (by rw [i1.k K]; exact (up_turnsIn_5 _ _ _ _).trans ((up_turnsIn_3 _ _ _ _).trans ((up_turnsIn_2 _ _ _ _).trans (f2)))) (rfl))))
theorem A19_16_sees {X0 : XS} {M0 : MS} {a b : Nat} {o : XO} (K : KB X0 M0 a b 19 o) (d : Nat) {n : Int} (hn : n + 3 ≤ 9000) {X : XS} {M : MS} (h : KI X0 M0 X M n) (p : Int32) : ∃ v X' M', k19_16_sees X a p = some (v, X') ∧ m_seesBy (d + 2) M (iz b) (iz 2) p = some (v, M') ∧ KI X0 M0 X' M' (n + 3) := by
  have b50 := K.2.2.2
  obtain ⟨X1, M1, e1, f1, i1⟩ := h.ran (by omega) 30 rfl
  obtain ⟨v0, X2, M2, e2, f2, i2⟩ := A19_14_sees K (d + 0) (by omega) i1 p
  refine ⟨-v0, X2, M2, ?_, ?_, i2.up (by omega)⟩
  · unfold k19_16_sees
    exact bindE (h.g K) (bindE e1 (bindE (i1.g K) (b2E e2 (rfl))))
  · rw [show d + 2 = (d + 1) + 1 from rfl, m_seesBy]
    exact iteFE (by decide) (iteTE rfl (bindE f1 (b2E (f2) (rfl))))
theorem A19_17_sees {X0 : XS} {M0 : MS} {a b : Nat} {o : XO} (K : KB X0 M0 a b 19 o) (d : Nat) {n : Int} (hn : n + 4 ≤ 9000) {X : XS} {M : MS} (h : KI X0 M0 X M n) (p : Int32) : ∃ v X' M', k19_17_sees X a p = some (v, X') ∧ m_seesBy (d + 3) M (iz b) (iz 3) p = some (v, M') ∧ KI X0 M0 X' M' (n + 4) := by
  have b50 := K.2.2.2
  obtain ⟨X1, M1, e1, f1, i1⟩ := h.ran (by omega) 41 rfl
  obtain ⟨v0, X2, M2, e2, f2, i2⟩ := A19_16_sees K (d + 0) (by omega) i1 (p + 1)
  refine ⟨v0, X2, M2, ?_, ?_, i2.up (by omega)⟩
  · unfold k19_17_sees
    exact bindE (h.g K) (bindE e1 (bindE (i1.g K) (b2E e2 (rfl))))
  · rw [show d + 3 = (d + 2) + 1 from rfl, m_seesBy]
    exact iteFE (by decide) (iteFE (by decide) (iteTE rfl (bindE f1 (b2E (f2) (rfl)))))
theorem A19_14_fears {X0 : XS} {M0 : MS} {a b : Nat} {o : XO} (K : KB X0 M0 a b 19 o) (d : Nat) {n : Int} (hn : n + 1 ≤ 9000) {X : XS} {M : MS} (h : KI X0 M0 X M n) (p : Int32) : ∃ v X' M', k19_14_fears X a p = some (v, X') ∧ m_fearsBy (d + 1) M (iz b) (iz 0) p = some (v, M') ∧ KI X0 M0 X' M' (n + 1) := by
  have b50 := K.2.2.2
  obtain ⟨X1, M1, e1, f1, i1⟩ := h.ran (by omega) 11 rfl
  refine ⟨p ^^^ iz b, X1, M1, ?_, ?_, i1.up (by omega)⟩
  · unfold k19_14_fears
    exact bindE (h.g K) (bindE e1 (bindE (i1.g K) (by rw [K.2.1])))
  · rw [show d + 1 = (d + 0) + 1 from rfl, m_fearsBy]
    exact iteTE rfl (bindE f1 rfl)
theorem A19_17_fears {X0 : XS} {M0 : MS} {a b : Nat} {o : XO} (K : KB X0 M0 a b 19 o) (d : Nat) {n : Int} (hn : n + 2 ≤ 9000) {X : XS} {M : MS} (h : KI X0 M0 X M n) (p : Int32) : ∃ v X' M', k19_17_fears X a p = some (v, X') ∧ m_fearsBy (d + 3) M (iz b) (iz 3) p = some (v, M') ∧ KI X0 M0 X' M' (n + 2) := by
  have b50 := K.2.2.2
  obtain ⟨X1, M1, e1, f1, i1⟩ := h.ran (by omega) 40 rfl
  obtain ⟨v0, X2, M2, e2, f2, i2⟩ := A19_14_fears K (d + 0) (by omega) i1 p
  refine ⟨v0 * 3, X2, M2, ?_, ?_, i2.up (by omega)⟩
  · unfold k19_17_fears
    exact bindE (h.g K) (bindE e1 (bindE (i1.g K) (b2E e2 (rfl))))
  · rw [show d + 3 = (d + 2) + 1 from rfl, m_fearsBy]
    exact iteFE (by decide) (iteTE rfl (bindE f1 (b2E ((up_fears_2 _ _ _ _).trans (f2)) (rfl))))
theorem A19_14_tells {X0 : XS} {M0 : MS} {a b : Nat} {o : XO} (K : KB X0 M0 a b 19 o) (d : Nat) {n : Int} (hn : n + 7 ≤ 9000) {X : XS} {M : MS} (h : KI X0 M0 X M n) (p : Int32) : ∃ v X' M', k19_14_tells X a p = some (v, X') ∧ m_tells (d + 1) M (iz b) (iz 0) p = some (v, M') ∧ KI X0 M0 X' M' (n + 7) := by
  have b50 := K.2.2.2
  obtain ⟨X1, M1, e1, f1, i1⟩ := h.ran (by omega) 2 rfl
  obtain ⟨v0, X2, M2, e2, f2, i2⟩ := A19_17_sees K (6) (by omega) i1 p
  obtain ⟨v1, X3, M3, e3, f3, i3⟩ := A19_17_fears K (6) (by omega) i2 1
  refine ⟨v0 - v1, X3, M3, ?_, ?_, i3.up (by omega)⟩
  · unfold k19_14_tells
    exact bindE (h.g K) (bindE e1 (bindE (i1.g K) (b2E e2 (bindE (i2.g K) (b2E e3 (rfl))))))
  · rw [show d + 1 = (d + 0) + 1 from rfl, m_tells]
    exact iteTE rfl (bindE f1 (chkE rfl (by omega) (b2E (by rw [i1.k K]; exact (up_sees_5 _ _ _ _).trans (f2)) (chkE rfl (by omega) (b2E (by rw [i2.k K]; exact (up_fears_5 _ _ _ _).trans (f3)) (rfl))))))
theorem A19_19_tells {X0 : XS} {M0 : MS} {a b : Nat} {o : XO} (K : KB X0 M0 a b 19 o) (d : Nat) {n : Int} (hn : n + 8 ≤ 9000) {X : XS} {M : MS} (h : KI X0 M0 X M n) (p : Int32) : ∃ v X' M', k19_19_tells X a p = some (v, X') ∧ m_tells (d + 4) M (iz b) (iz 5) p = some (v, M') ∧ KI X0 M0 X' M' (n + 8) := by
  have b50 := K.2.2.2
  obtain ⟨X1, M1, e1, f1, i1⟩ := h.ran (by omega) 60 rfl
  obtain ⟨v0, X2, M2, e2, f2, i2⟩ := A19_14_tells K (d + 0) (by omega) i1 p
  refine ⟨v0 ^^^ 5, X2, M2, ?_, ?_, i2.up (by omega)⟩
  · unfold k19_19_tells
    exact bindE (h.g K) (bindE e1 (bindE (i1.g K) (b2E e2 (rfl))))
  · rw [show d + 4 = (d + 3) + 1 from rfl, m_tells]
    exact iteFE (by decide) (iteTE rfl (bindE f1 (b2E ((up_tells_3 _ _ _ _).trans ((up_tells_2 _ _ _ _).trans (f2))) (rfl))))
theorem A20_14_turnsIn {X0 : XS} {M0 : MS} {a b : Nat} {o : XO} (K : KB X0 M0 a b 20 o) (d : Nat) {n : Int} (hn : n + 1 ≤ 9000) {X : XS} {M : MS} (h : KI X0 M0 X M n) (p : Int32) : ∃ v X' M', k20_14_turnsIn X a p = some (v, X') ∧ m_turnsBy (d + 1) M (iz b) (iz 0) p = some (v, M') ∧ KI X0 M0 X' M' (n + 1) := by
  have b50 := K.2.2.2
  obtain ⟨X1, M1, e1, f1, i1⟩ := h.ran (by omega) 1 rfl
  refine ⟨p + iz b, X1, M1, ?_, ?_, i1.up (by omega)⟩
  · unfold k20_14_turnsIn
    exact bindE (h.g K) (bindE e1 (bindE (i1.g K) (by rw [K.2.1])))
  · rw [show d + 1 = (d + 0) + 1 from rfl, m_turnsBy]
    exact iteTE rfl (bindE f1 rfl)
theorem A20_20_turnsIn {X0 : XS} {M0 : MS} {a b : Nat} {o : XO} (K : KB X0 M0 a b 20 o) (d : Nat) {n : Int} (hn : n + 2 ≤ 9000) {X : XS} {M : MS} (h : KI X0 M0 X M n) (p : Int32) : ∃ v X' M', k20_20_turnsIn X a p = some (v, X') ∧ m_turnsBy (d + 2) M (iz b) (iz 6) p = some (v, M') ∧ KI X0 M0 X' M' (n + 2) := by
  have b50 := K.2.2.2
  obtain ⟨X1, M1, e1, f1, i1⟩ := h.ran (by omega) 70 rfl
  obtain ⟨v0, X2, M2, e2, f2, i2⟩ := A20_14_turnsIn K (d + 0) (by omega) i1 p
  refine ⟨v0 * 2, X2, M2, ?_, ?_, i2.up (by omega)⟩
  · unfold k20_20_turnsIn
    exact bindE (h.g K) (bindE e1 (bindE (i1.g K) (b2E e2 (rfl))))
  · rw [show d + 2 = (d + 1) + 1 from rfl, m_turnsBy]
    exact iteFE (by decide) (iteFE (by decide) (iteTE rfl (bindE f1 (b2E (f2) (rfl)))))
theorem A20_14_sees {X0 : XS} {M0 : MS} {a b : Nat} {o : XO} (K : KB X0 M0 a b 20 o) (d : Nat) {n : Int} (hn : n + 3 ≤ 9000) {X : XS} {M : MS} (h : KI X0 M0 X M n) (p : Int32) : ∃ v X' M', k20_14_sees X a p = some (v, X') ∧ m_seesBy (d + 1) M (iz b) (iz 0) p = some (v, M') ∧ KI X0 M0 X' M' (n + 3) := by
  have b50 := K.2.2.2
  obtain ⟨X1, M1, e1, f1, i1⟩ := h.ran (by omega) 10 rfl
  obtain ⟨v0, X2, M2, e2, f2, i2⟩ := A20_20_turnsIn K (8) (by omega) i1 p
  refine ⟨v0 * 2, X2, M2, ?_, ?_, i2.up (by omega)⟩
  · unfold k20_14_sees
    exact bindE (h.g K) (bindE e1 (bindE (i1.g K) (b2E e2 (rfl))))
  · rw [show d + 1 = (d + 0) + 1 from rfl, m_seesBy]
    exact iteTE rfl (bindE f1 (chkE rfl (by omega) (b2E (by rw [i1.k K]; exact f2) (rfl))))
theorem A20_14_fears {X0 : XS} {M0 : MS} {a b : Nat} {o : XO} (K : KB X0 M0 a b 20 o) (d : Nat) {n : Int} (hn : n + 1 ≤ 9000) {X : XS} {M : MS} (h : KI X0 M0 X M n) (p : Int32) : ∃ v X' M', k20_14_fears X a p = some (v, X') ∧ m_fearsBy (d + 1) M (iz b) (iz 0) p = some (v, M') ∧ KI X0 M0 X' M' (n + 1) := by
  have b50 := K.2.2.2
  obtain ⟨X1, M1, e1, f1, i1⟩ := h.ran (by omega) 11 rfl
  refine ⟨p ^^^ iz b, X1, M1, ?_, ?_, i1.up (by omega)⟩
  · unfold k20_14_fears
    exact bindE (h.g K) (bindE e1 (bindE (i1.g K) (by rw [K.2.1])))
  · rw [show d + 1 = (d + 0) + 1 from rfl, m_fearsBy]
    exact iteTE rfl (bindE f1 rfl)
theorem A20_14_tells {X0 : XS} {M0 : MS} {a b : Nat} {o : XO} (K : KB X0 M0 a b 20 o) (d : Nat) {n : Int} (hn : n + 5 ≤ 9000) {X : XS} {M : MS} (h : KI X0 M0 X M n) (p : Int32) : ∃ v X' M', k20_14_tells X a p = some (v, X') ∧ m_tells (d + 1) M (iz b) (iz 0) p = some (v, M') ∧ KI X0 M0 X' M' (n + 5) := by
  have b50 := K.2.2.2
  obtain ⟨X1, M1, e1, f1, i1⟩ := h.ran (by omega) 2 rfl
  obtain ⟨v0, X2, M2, e2, f2, i2⟩ := A20_14_sees K (8) (by omega) i1 p
  obtain ⟨v1, X3, M3, e3, f3, i3⟩ := A20_14_fears K (8) (by omega) i2 1
  refine ⟨v0 - v1, X3, M3, ?_, ?_, i3.up (by omega)⟩
  · unfold k20_14_tells
    exact bindE (h.g K) (bindE e1 (bindE (i1.g K) (b2E e2 (bindE (i2.g K) (b2E e3 (rfl))))))
  · rw [show d + 1 = (d + 0) + 1 from rfl, m_tells]
    exact iteTE rfl (bindE f1 (chkE rfl (by omega) (b2E (by rw [i1.k K]; exact (up_sees_6 _ _ _ _).trans (f2)) (chkE rfl (by omega) (b2E (by rw [i2.k K]; exact (up_fears_6 _ _ _ _).trans (f3)) (rfl))))))
theorem A21_14_turnsIn {X0 : XS} {M0 : MS} {a b : Nat} {o : XO} (K : KB X0 M0 a b 21 o) (d : Nat) {n : Int} (hn : n + 1 ≤ 9000) {X : XS} {M : MS} (h : KI X0 M0 X M n) (p : Int32) : ∃ v X' M', k21_14_turnsIn X a p = some (v, X') ∧ m_turnsBy (d + 1) M (iz b) (iz 0) p = some (v, M') ∧ KI X0 M0 X' M' (n + 1) := by
  have b50 := K.2.2.2
  obtain ⟨X1, M1, e1, f1, i1⟩ := h.ran (by omega) 1 rfl
  refine ⟨p + iz b, X1, M1, ?_, ?_, i1.up (by omega)⟩
  · unfold k21_14_turnsIn
    exact bindE (h.g K) (bindE e1 (bindE (i1.g K) (by rw [K.2.1])))
  · rw [show d + 1 = (d + 0) + 1 from rfl, m_turnsBy]
    exact iteTE rfl (bindE f1 rfl)
theorem A21_15_turnsIn {X0 : XS} {M0 : MS} {a b : Nat} {o : XO} (K : KB X0 M0 a b 21 o) (d : Nat) {n : Int} (hn : n + 2 ≤ 9000) {X : XS} {M : MS} (h : KI X0 M0 X M n) (p : Int32) : ∃ v X' M', k21_15_turnsIn X a p = some (v, X') ∧ m_turnsBy (d + 2) M (iz b) (iz 1) p = some (v, M') ∧ KI X0 M0 X' M' (n + 2) := by
  have b50 := K.2.2.2
  obtain ⟨X1, M1, e1, f1, i1⟩ := h.ran (by omega) 20 rfl
  obtain ⟨v0, X2, M2, e2, f2, i2⟩ := A21_14_turnsIn K (d + 0) (by omega) i1 p
  refine ⟨v0 + 3, X2, M2, ?_, ?_, i2.up (by omega)⟩
  · unfold k21_15_turnsIn
    exact bindE (h.g K) (bindE e1 (bindE (i1.g K) (b2E e2 (rfl))))
  · rw [show d + 2 = (d + 1) + 1 from rfl, m_turnsBy]
    exact iteFE (by decide) (iteTE rfl (bindE f1 (b2E (f2) (rfl))))
theorem A21_14_sees {X0 : XS} {M0 : MS} {a b : Nat} {o : XO} (K : KB X0 M0 a b 21 o) (d : Nat) {n : Int} (hn : n + 3 ≤ 9000) {X : XS} {M : MS} (h : KI X0 M0 X M n) (p : Int32) : ∃ v X' M', k21_14_sees X a p = some (v, X') ∧ m_seesBy (d + 1) M (iz b) (iz 0) p = some (v, M') ∧ KI X0 M0 X' M' (n + 3) := by
  have b50 := K.2.2.2
  obtain ⟨X1, M1, e1, f1, i1⟩ := h.ran (by omega) 10 rfl
  obtain ⟨v0, X2, M2, e2, f2, i2⟩ := A21_15_turnsIn K (6) (by omega) i1 p
  refine ⟨v0 * 2, X2, M2, ?_, ?_, i2.up (by omega)⟩
  · unfold k21_14_sees
    exact bindE (h.g K) (bindE e1 (bindE (i1.g K) (b2E e2 (rfl))))
  · rw [show d + 1 = (d + 0) + 1 from rfl, m_seesBy]
    exact iteTE rfl (bindE f1 (chkE rfl (by omega) (b2E (by rw [i1.k K]; exact (up_turnsIn_7 _ _ _ _).trans ((up_turnsIn_4 _ _ _ _).trans (f2))) (rfl))))
theorem A21_14_fears {X0 : XS} {M0 : MS} {a b : Nat} {o : XO} (K : KB X0 M0 a b 21 o) (d : Nat) {n : Int} (hn : n + 1 ≤ 9000) {X : XS} {M : MS} (h : KI X0 M0 X M n) (p : Int32) : ∃ v X' M', k21_14_fears X a p = some (v, X') ∧ m_fearsBy (d + 1) M (iz b) (iz 0) p = some (v, M') ∧ KI X0 M0 X' M' (n + 1) := by
  have b50 := K.2.2.2
  obtain ⟨X1, M1, e1, f1, i1⟩ := h.ran (by omega) 11 rfl
  refine ⟨p ^^^ iz b, X1, M1, ?_, ?_, i1.up (by omega)⟩
  · unfold k21_14_fears
    exact bindE (h.g K) (bindE e1 (bindE (i1.g K) (by rw [K.2.1])))
  · rw [show d + 1 = (d + 0) + 1 from rfl, m_fearsBy]
    exact iteTE rfl (bindE f1 rfl)
theorem A21_18_fears {X0 : XS} {M0 : MS} {a b : Nat} {o : XO} (K : KB X0 M0 a b 21 o) (d : Nat) {n : Int} (hn : n + 4 ≤ 9000) {X : XS} {M : MS} (h : KI X0 M0 X M n) (p : Int32) : ∃ v X' M', k21_18_fears X a p = some (v, X') ∧ m_fearsBy (d + 3) M (iz b) (iz 4) p = some (v, M') ∧ KI X0 M0 X' M' (n + 4) := by
  have b50 := K.2.2.2
  obtain ⟨X1, M1, e1, f1, i1⟩ := h.ran (by omega) 50 rfl
  obtain ⟨v0, X2, M2, e2, f2, i2⟩ := A21_14_fears K (d + 0) (by omega) i1 p
  obtain ⟨v1, X3, M3, e3, f3, i3⟩ := A21_15_turnsIn K (6) (by omega) i2 2
  refine ⟨v0 - v1, X3, M3, ?_, ?_, i3.up (by omega)⟩
  · unfold k21_18_fears
    exact bindE (h.g K) (bindE e1 (bindE (i1.g K) (b2E e2 (bindE (i2.g K) (b2E e3 (rfl))))))
  · rw [show d + 3 = (d + 2) + 1 from rfl, m_fearsBy]
    exact iteFE (by decide) (iteFE (by decide) (iteTE rfl (bindE f1 (b2E ((up_fears_1 _ _ _ _).trans (f2)) (chkE rfl (by omega) (b2E (by rw [i2.k K]; exact (up_turnsIn_7 _ _ _ _).trans ((up_turnsIn_4 _ _ _ _).trans (f3))) (rfl)))))))
theorem A21_21_sees {X0 : XS} {M0 : MS} {a b : Nat} {o : XO} (K : KB X0 M0 a b 21 o) (d : Nat) {n : Int} (hn : n + 8 ≤ 9000) {X : XS} {M : MS} (h : KI X0 M0 X M n) (p : Int32) : ∃ v X' M', k21_21_sees X a p = some (v, X') ∧ m_seesBy (d + 4) M (iz b) (iz 7) p = some (v, M') ∧ KI X0 M0 X' M' (n + 8) := by
  have b50 := K.2.2.2
  obtain ⟨X1, M1, e1, f1, i1⟩ := h.ran (by omega) 80 rfl
  obtain ⟨v0, X2, M2, e2, f2, i2⟩ := A21_14_sees K (d + 0) (by omega) i1 p
  obtain ⟨v1, X3, M3, e3, f3, i3⟩ := A21_18_fears K (6) (by omega) i2 2
  refine ⟨v0 + v1, X3, M3, ?_, ?_, i3.up (by omega)⟩
  · unfold k21_21_sees
    exact bindE (h.g K) (bindE e1 (bindE (i1.g K) (b2E e2 (bindE (i2.g K) (b2E e3 (rfl))))))
  · rw [show d + 4 = (d + 3) + 1 from rfl, m_seesBy]
    exact iteFE (by decide) (iteFE (by decide) (iteFE (by decide) (iteTE rfl (bindE f1 (b2E ((up_sees_4 _ _ _ _).trans ((up_sees_1 _ _ _ _).trans (f2))) (chkE rfl (by omega) (b2E (by rw [i2.k K]; exact (up_fears_7 _ _ _ _).trans (f3)) (rfl))))))))
theorem A21_14_tells {X0 : XS} {M0 : MS} {a b : Nat} {o : XO} (K : KB X0 M0 a b 21 o) (d : Nat) {n : Int} (hn : n + 13 ≤ 9000) {X : XS} {M : MS} (h : KI X0 M0 X M n) (p : Int32) : ∃ v X' M', k21_14_tells X a p = some (v, X') ∧ m_tells (d + 1) M (iz b) (iz 0) p = some (v, M') ∧ KI X0 M0 X' M' (n + 13) := by
  have b50 := K.2.2.2
  obtain ⟨X1, M1, e1, f1, i1⟩ := h.ran (by omega) 2 rfl
  obtain ⟨v0, X2, M2, e2, f2, i2⟩ := A21_21_sees K (6) (by omega) i1 p
  obtain ⟨v1, X3, M3, e3, f3, i3⟩ := A21_18_fears K (6) (by omega) i2 1
  refine ⟨v0 - v1, X3, M3, ?_, ?_, i3.up (by omega)⟩
  · unfold k21_14_tells
    exact bindE (h.g K) (bindE e1 (bindE (i1.g K) (b2E e2 (bindE (i2.g K) (b2E e3 (rfl))))))
  · rw [show d + 1 = (d + 0) + 1 from rfl, m_tells]
    exact iteTE rfl (bindE f1 (chkE rfl (by omega) (b2E (by rw [i1.k K]; exact f2) (chkE rfl (by omega) (b2E (by rw [i2.k K]; exact (up_fears_7 _ _ _ _).trans (f3)) (rfl))))))
theorem A21_21_tells {X0 : XS} {M0 : MS} {a b : Nat} {o : XO} (K : KB X0 M0 a b 21 o) (d : Nat) {n : Int} (hn : n + 14 ≤ 9000) {X : XS} {M : MS} (h : KI X0 M0 X M n) (p : Int32) : ∃ v X' M', k21_21_tells X a p = some (v, X') ∧ m_tells (d + 4) M (iz b) (iz 7) p = some (v, M') ∧ KI X0 M0 X' M' (n + 14) := by
  have b50 := K.2.2.2
  obtain ⟨X1, M1, e1, f1, i1⟩ := h.ran (by omega) 81 rfl
  obtain ⟨v0, X2, M2, e2, f2, i2⟩ := A21_14_tells K (d + 0) (by omega) i1 p
  refine ⟨v0 - 1, X2, M2, ?_, ?_, i2.up (by omega)⟩
  · unfold k21_21_tells
    exact bindE (h.g K) (bindE e1 (bindE (i1.g K) (b2E e2 (rfl))))
  · rw [show d + 4 = (d + 3) + 1 from rfl, m_tells]
    exact iteFE (by decide) (iteFE (by decide) (iteTE rfl (bindE f1 (b2E ((up_tells_4 _ _ _ _).trans ((up_tells_1 _ _ _ _).trans (f2))) (rfl)))))
theorem R_KI {X : XS} {M : MS} (h : R X M) {X' : XS} {M' : MS} {n : Int} (hn : n ≤ 1000000) (k : KI (xI X 44 0) (sI M 39 0) X' M' n) : R X' M' := by
  obtain ⟨h1, h2, h3, h4, h5, h6, h7, h8, h9⟩ := h
  obtain ⟨⟨a1, a2, a3⟩, a4, ⟨b1, b2, b3⟩, c1, c2, c3⟩ := k
  have hr : X'.2.2.1 = X.2.2.1 := by rw [b1]; rfl
  have ho : X'.2.2.2 = X.2.2.2 := by rw [b1]; rfl
  have eo : ∀ (a : Nat) (o : XO), X.2.2.2 a = some o → X'.2.2.2 a = some o := fun a o q => by rw [ho]; exact q
  have e : ∀ k, k ≠ 44 → X'.1 k = X.1 k := fun k hk => by rw [b2 k hk, xI1, if_neg hk]
  have ea : ∀ k, k ≠ 45 → X'.2.1 k = X.2.1 k := fun k hk => by rw [b3 k hk]; rfl
  have m : ∀ k, k ≠ 39 → M'.1 k = M.1 k := fun k hk => by rw [c2 k hk, sI1, if_neg hk]
  have n' : ∀ k, k ≠ 40 → M'.2.1 k = M.2.1 k := fun k hk => by rw [c3 k hk]; rfl
  have ml : M'.2.2 = M.2.2 := by rw [c1]; rfl
  have m0 : mi M 0 ≤ mi M' 0 := by rw [mi_cg (m 0 (by decide))]; omega
  refine ⟨?_, ?_, ?_, ?_, ?_, ?_, ⟨⟨a1, a2, by omega⟩, a4⟩, ?_, ?_⟩
  · exact h1.cg (e 1 (by decide)) (e 2 (by decide)) (e 3 (by decide)) (e 4 (by decide)) (e 5 (by decide)) (by rw [hr]) (fun a o q _ => eo a o q) (m 0 (by decide)) (n' 1 (by decide)) (n' 2 (by decide)) (n' 3 (by decide)) (n' 4 (by decide)) (n' 5 (by decide)) (n' 26 (by decide))
  · exact h2.cg (e 7 (by decide)) (e 8 (by decide)) (by rw [hr]) (fun a o q _ => eo a o q) m0 (m 34 (by decide)) (m 35 (by decide)) (n' 36 (by decide))
  · exact h3.cg (e 10 (by decide)) (ea 9 (by decide)) (m 6 (by decide)) (n' 7 (by decide))
  · exact h4.cg (by rw [hr]) (fun a o q _ => eo a o q) (m 8 (by decide)) (m 9 (by decide)) (n' 10 (by decide)) (n' 11 (by decide)) (n' 12 (by decide)) (n' 13 (by decide))
  · exact h5.cg (e 29 (by decide)) (e 30 (by decide)) (e 31 (by decide)) (e 32 (by decide)) (e 33 (by decide)) (e 34 (by decide)) m0 (m 24 (by decide)) (m 25 (by decide)) (n' 27 (by decide))
  · exact h6.cg (e 35 (by decide)) (e 37 (by decide)) (e 38 (by decide)) (e 39 (by decide)) (e 40 (by decide)) (e 41 (by decide)) (e 42 (by decide)) (e 43 (by decide)) (ea 36 (by decide)) m0 (m 28 (by decide)) (m 29 (by decide)) (m 30 (by decide)) (m 31 (by decide)) (n' 32 (by decide)) (n' 33 (by decide))
  · exact h8.cg (e 47 (by decide)) (by rw [hr]) (fun a o q _ => eo a o q) (m 37 (by decide)) (n' 38 (by decide))
  · exact h9.cg (by rw [hr]) (by rw [hr]) (fun a o q _ => eo a o q) (m 37 (by decide)) (n' 41 (by decide)) (n' 42 (by decide)) ml
theorem law_act {X : XS} {M : MS} (h : R X M) (p w v : Int32) : same (x_act X p w v) (m_act M p w v) := by
  have hR := h
  obtain ⟨z, hz, rfl⟩ := izE p
  obtain ⟨g, hg, rfl⟩ := izE w
  obtain ⟨h1, h2, h3, h4, h5, h6, h7, h8, h9⟩ := h
  obtain ⟨⟨a1, a2, a3⟩, a4⟩ := h8
  have kz : KI (xI X 44 0) (sI M 39 0) (xI X 44 0) (sI M 39 0) 0 := by
    have e : mi (sI M 39 0) 39 = 0 := rfl
    exact ⟨⟨rfl, by rw [e]; exact Int.le_refl _, by rw [e]; exact Int.le_refl _⟩, fun k k1 k2 => by rw [e] at k2; omega, ⟨rfl, fun _ _ => rfl, fun _ _ => rfl⟩, rfl, fun _ _ => rfl, fun _ _ => rfl⟩
  have R0 : R (xI X 44 0) (sI M 39 0) := R_KI hR (by omega) kz
  unfold x_act m_act x_isBody
  simp only [nm_eq]
  have wx : ((x_in (iz z) 0 ((xI X 44 0).1 47 - 1)).bind fun v2 => some v2) = some (decide (0 ≤ z ∧ z ≤ mi M 37 - 1)) := by
    rw [show (xI X 44 0).1 47 = X.1 47 from rfl, a1, show (1 : Int32) = iz 1 from rfl, iz_sub, show (0 : Int32) = iz 0 from rfl, x_in_iz (by omega)]; rfl
  have wm : m_within (iz z) 0 ((sI M 39 0).1 37 - 1) = some (decide (0 ≤ z ∧ z ≤ mi M 37 - 1)) := by
    rw [show (sI M 39 0).1 37 = M.1 37 from rfl, mi_eq, show (1 : Int32) = iz 1 from rfl, iz_sub, show (0 : Int32) = iz 0 from rfl, m_within_iz (by omega)]
  by_cases c : ¬ (0 ≤ z ∧ z ≤ mi M 37 - 1)
  · rw [decide_eq_false c] at wx wm
    exact ⟨_, _, _, bindE wx (iteTE rfl rfl), bindE wm (iteTE rfl rfl), R0⟩
  replace c := Decidable.not_not.mp c
  rw [decide_eq_true c] at wx wm
  have gx : x_in (iz g) 0 3 = some (decide (0 ≤ g ∧ g ≤ 3)) := by rw [show (0 : Int32) = iz 0 from rfl, show (3 : Int32) = iz 3 from rfl, x_in_iz (by omega)]
  have gm : m_within (iz g) 0 3 = some (decide (0 ≤ g ∧ g ≤ 3)) := gx
  by_cases cg : ¬ (0 ≤ g ∧ g ≤ 3)
  · rw [decide_eq_false cg] at gx gm
    exact ⟨_, _, _, bindE wx (iteFE b2iT (bindE gx (iteTE rfl rfl))), bindE wm (iteFE b2iT (bindE gm (iteTE rfl rfl))), R0⟩
  replace cg := Decidable.not_not.mp cg
  rw [decide_eq_true cg] at gx gm
  obtain ⟨b, rfl⟩ : ∃ b : Nat, z = b := ⟨z.toNat, by omega⟩
  obtain ⟨a, o, q1, q2, q3, q4, q5⟩ := a4 b (by omega)
  obtain ⟨k, hk⟩ : ∃ k : Nat, ma M 38 b = k := ⟨(ma M 38 b).toNat, by omega⟩
  have b50 : b < 50 := by omega
  have ek : (sI M 39 0).2.1 38 (iz b).toNatClampNeg = iz k := by
    rw [iz_clampN (by omega)]
    show M.2.1 38 b = _
    rw [ma_eq, hk]
  have ea : (xI X 44 0).2.2.1 46 (iz b).toNatClampNeg = some a := by rw [iz_clampN (by omega)]; exact q1
  have eo : (xI X 44 0).2.2.2 a = some o := q2
  by_cases k0 : k = 0
  · subst k0
    have K : KB (xI X 44 0) (sI M 39 0) a b 14 o := ⟨getO_eq q2 (by omega), q5, by rw [show (sI M 39 0).2.1 38 b = M.2.1 38 b from rfl, ma_eq, hk]; rfl, b50⟩
    by_cases g0 : g = 0
    · subst g0
      obtain ⟨v1, X1, M1, e1, f1, i1⟩ := A14_14_turnsIn K 9 (by omega) kz v
      refine ⟨v1, X1, M1, ?_, ?_, R_KI hR (by omega) i1⟩
      · exact bindE wx (iteFE b2iT (bindE gx (iteFE b2iT (chkE rfl (by omega) (bindE ea (iteTE rfl (bindE eo (iteTE (by omega) (bindE K.1 (b2E e1 rfl))))))))))
      · refine bindE wm (iteFE b2iT (bindE gm (iteFE b2iT (chkE rfl (by omega) ?_))))
        rw [ek]
        exact iteTE rfl (b2E (f1) rfl)
    by_cases g1 : g = 1
    · subst g1
      obtain ⟨v1, X1, M1, e1, f1, i1⟩ := A14_14_sees K 9 (by omega) kz v
      refine ⟨v1, X1, M1, ?_, ?_, R_KI hR (by omega) i1⟩
      · exact bindE wx (iteFE b2iT (bindE gx (iteFE b2iT (chkE rfl (by omega) (bindE ea (iteFE (by decide) (iteFE (by decide) (iteTE rfl (bindE eo (iteTE (by omega) (bindE K.1 (b2E e1 rfl))))))))))))
      · refine bindE wm (iteFE b2iT (bindE gm (iteFE b2iT (chkE rfl (by omega) ?_))))
        rw [ek]
        exact iteFE (by decide) (iteTE rfl (b2E (f1) rfl))
    by_cases g2 : g = 2
    · subst g2
      obtain ⟨v1, X1, M1, e1, f1, i1⟩ := A14_14_fears K 9 (by omega) kz v
      refine ⟨v1, X1, M1, ?_, ?_, R_KI hR (by omega) i1⟩
      · exact bindE wx (iteFE b2iT (bindE gx (iteFE b2iT (chkE rfl (by omega) (bindE ea (iteFE (by decide) (iteFE (by decide) (iteFE (by decide) (bindE eo (iteTE (by omega) (bindE K.1 (b2E e1 rfl))))))))))))
      · refine bindE wm (iteFE b2iT (bindE gm (iteFE b2iT (chkE rfl (by omega) ?_))))
        rw [ek]
        exact iteFE (by decide) (iteFE (by decide) (iteTE rfl (b2E (f1) rfl)))
    obtain rfl : g = 3 := by omega
    obtain ⟨v1, X1, M1, e1, f1, i1⟩ := A14_14_tells K 9 (by omega) kz v
    refine ⟨v1, X1, M1, ?_, ?_, R_KI hR (by omega) i1⟩
    · exact bindE wx (iteFE b2iT (bindE gx (iteFE b2iT (chkE rfl (by omega) (bindE ea (iteFE (by decide) (iteTE rfl (bindE eo (iteTE (by omega) (bindE K.1 (b2E e1 rfl)))))))))))
    · refine bindE wm (iteFE b2iT (bindE gm (iteFE b2iT (chkE rfl (by omega) ?_))))
      rw [ek]
      exact iteFE (by decide) (iteFE (by decide) (iteFE (by decide) (b2E (f1) rfl)))
  by_cases k1 : k = 1
  · subst k1
    have K : KB (xI X 44 0) (sI M 39 0) a b 15 o := ⟨getO_eq q2 (by omega), q5, by rw [show (sI M 39 0).2.1 38 b = M.2.1 38 b from rfl, ma_eq, hk]; rfl, b50⟩
    by_cases g0 : g = 0
    · subst g0
      obtain ⟨v1, X1, M1, e1, f1, i1⟩ := A15_15_turnsIn K 8 (by omega) kz v
      refine ⟨v1, X1, M1, ?_, ?_, R_KI hR (by omega) i1⟩
      · exact bindE wx (iteFE b2iT (bindE gx (iteFE b2iT (chkE rfl (by omega) (bindE ea (iteTE rfl (bindE eo (iteFE (by omega) (iteTE (by omega) (bindE K.1 (b2E e1 rfl)))))))))))
      · refine bindE wm (iteFE b2iT (bindE gm (iteFE b2iT (chkE rfl (by omega) ?_))))
        rw [ek]
        exact iteTE rfl (b2E (f1) rfl)
    by_cases g1 : g = 1
    · subst g1
      obtain ⟨v1, X1, M1, e1, f1, i1⟩ := A15_14_sees K 8 (by omega) kz v
      refine ⟨v1, X1, M1, ?_, ?_, R_KI hR (by omega) i1⟩
      · exact bindE wx (iteFE b2iT (bindE gx (iteFE b2iT (chkE rfl (by omega) (bindE ea (iteFE (by decide) (iteFE (by decide) (iteTE rfl (bindE eo (iteFE (by omega) (iteTE (by omega) (bindE K.1 (b2E e1 rfl)))))))))))))
      · refine bindE wm (iteFE b2iT (bindE gm (iteFE b2iT (chkE rfl (by omega) ?_))))
        rw [ek]
        exact iteFE (by decide) (iteTE rfl (b2E ((up_sees_1 _ _ _ _).trans (f1)) rfl))
    by_cases g2 : g = 2
    · subst g2
      obtain ⟨v1, X1, M1, e1, f1, i1⟩ := A15_14_fears K 8 (by omega) kz v
      refine ⟨v1, X1, M1, ?_, ?_, R_KI hR (by omega) i1⟩
      · exact bindE wx (iteFE b2iT (bindE gx (iteFE b2iT (chkE rfl (by omega) (bindE ea (iteFE (by decide) (iteFE (by decide) (iteFE (by decide) (bindE eo (iteFE (by omega) (iteTE (by omega) (bindE K.1 (b2E e1 rfl)))))))))))))
      · refine bindE wm (iteFE b2iT (bindE gm (iteFE b2iT (chkE rfl (by omega) ?_))))
        rw [ek]
        exact iteFE (by decide) (iteFE (by decide) (iteTE rfl (b2E ((up_fears_1 _ _ _ _).trans (f1)) rfl)))
    obtain rfl : g = 3 := by omega
    obtain ⟨v1, X1, M1, e1, f1, i1⟩ := A15_14_tells K 8 (by omega) kz v
    refine ⟨v1, X1, M1, ?_, ?_, R_KI hR (by omega) i1⟩
    · exact bindE wx (iteFE b2iT (bindE gx (iteFE b2iT (chkE rfl (by omega) (bindE ea (iteFE (by decide) (iteTE rfl (bindE eo (iteFE (by omega) (iteTE (by omega) (bindE K.1 (b2E e1 rfl))))))))))))
    · refine bindE wm (iteFE b2iT (bindE gm (iteFE b2iT (chkE rfl (by omega) ?_))))
      rw [ek]
      exact iteFE (by decide) (iteFE (by decide) (iteFE (by decide) (b2E ((up_tells_1 _ _ _ _).trans (f1)) rfl)))
  by_cases k2 : k = 2
  · subst k2
    have K : KB (xI X 44 0) (sI M 39 0) a b 16 o := ⟨getO_eq q2 (by omega), q5, by rw [show (sI M 39 0).2.1 38 b = M.2.1 38 b from rfl, ma_eq, hk]; rfl, b50⟩
    by_cases g0 : g = 0
    · subst g0
      obtain ⟨v1, X1, M1, e1, f1, i1⟩ := A16_14_turnsIn K 8 (by omega) kz v
      refine ⟨v1, X1, M1, ?_, ?_, R_KI hR (by omega) i1⟩
      · exact bindE wx (iteFE b2iT (bindE gx (iteFE b2iT (chkE rfl (by omega) (bindE ea (iteTE rfl (bindE eo (iteFE (by omega) (iteFE (by omega) (iteTE (by omega) (bindE K.1 (b2E e1 rfl))))))))))))
      · refine bindE wm (iteFE b2iT (bindE gm (iteFE b2iT (chkE rfl (by omega) ?_))))
        rw [ek]
        exact iteTE rfl (b2E ((up_turnsIn_2 _ _ _ _).trans (f1)) rfl)
    by_cases g1 : g = 1
    · subst g1
      obtain ⟨v1, X1, M1, e1, f1, i1⟩ := A16_16_sees K 8 (by omega) kz v
      refine ⟨v1, X1, M1, ?_, ?_, R_KI hR (by omega) i1⟩
      · exact bindE wx (iteFE b2iT (bindE gx (iteFE b2iT (chkE rfl (by omega) (bindE ea (iteFE (by decide) (iteFE (by decide) (iteTE rfl (bindE eo (iteFE (by omega) (iteFE (by omega) (iteTE (by omega) (bindE K.1 (b2E e1 rfl))))))))))))))
      · refine bindE wm (iteFE b2iT (bindE gm (iteFE b2iT (chkE rfl (by omega) ?_))))
        rw [ek]
        exact iteFE (by decide) (iteTE rfl (b2E (f1) rfl))
    by_cases g2 : g = 2
    · subst g2
      obtain ⟨v1, X1, M1, e1, f1, i1⟩ := A16_14_fears K 8 (by omega) kz v
      refine ⟨v1, X1, M1, ?_, ?_, R_KI hR (by omega) i1⟩
      · exact bindE wx (iteFE b2iT (bindE gx (iteFE b2iT (chkE rfl (by omega) (bindE ea (iteFE (by decide) (iteFE (by decide) (iteFE (by decide) (bindE eo (iteFE (by omega) (iteFE (by omega) (iteTE (by omega) (bindE K.1 (b2E e1 rfl))))))))))))))
      · refine bindE wm (iteFE b2iT (bindE gm (iteFE b2iT (chkE rfl (by omega) ?_))))
        rw [ek]
        exact iteFE (by decide) (iteFE (by decide) (iteTE rfl (b2E ((up_fears_2 _ _ _ _).trans (f1)) rfl)))
    obtain rfl : g = 3 := by omega
    obtain ⟨v1, X1, M1, e1, f1, i1⟩ := A16_14_tells K 8 (by omega) kz v
    refine ⟨v1, X1, M1, ?_, ?_, R_KI hR (by omega) i1⟩
    · exact bindE wx (iteFE b2iT (bindE gx (iteFE b2iT (chkE rfl (by omega) (bindE ea (iteFE (by decide) (iteTE rfl (bindE eo (iteFE (by omega) (iteFE (by omega) (iteTE (by omega) (bindE K.1 (b2E e1 rfl)))))))))))))
    · refine bindE wm (iteFE b2iT (bindE gm (iteFE b2iT (chkE rfl (by omega) ?_))))
      rw [ek]
      exact iteFE (by decide) (iteFE (by decide) (iteFE (by decide) (b2E ((up_tells_2 _ _ _ _).trans (f1)) rfl)))
  by_cases k3 : k = 3
  · subst k3
    have K : KB (xI X 44 0) (sI M 39 0) a b 17 o := ⟨getO_eq q2 (by omega), q5, by rw [show (sI M 39 0).2.1 38 b = M.2.1 38 b from rfl, ma_eq, hk]; rfl, b50⟩
    by_cases g0 : g = 0
    · subst g0
      obtain ⟨v1, X1, M1, e1, f1, i1⟩ := A17_14_turnsIn K 7 (by omega) kz v
      refine ⟨v1, X1, M1, ?_, ?_, R_KI hR (by omega) i1⟩
      · exact bindE wx (iteFE b2iT (bindE gx (iteFE b2iT (chkE rfl (by omega) (bindE ea (iteTE rfl (bindE eo (iteFE (by omega) (iteFE (by omega) (iteFE (by omega) (iteTE (by omega) (bindE K.1 (b2E e1 rfl)))))))))))))
      · refine bindE wm (iteFE b2iT (bindE gm (iteFE b2iT (chkE rfl (by omega) ?_))))
        rw [ek]
        exact iteTE rfl (b2E ((up_turnsIn_3 _ _ _ _).trans ((up_turnsIn_2 _ _ _ _).trans (f1))) rfl)
    by_cases g1 : g = 1
    · subst g1
      obtain ⟨v1, X1, M1, e1, f1, i1⟩ := A17_17_sees K 7 (by omega) kz v
      refine ⟨v1, X1, M1, ?_, ?_, R_KI hR (by omega) i1⟩
      · exact bindE wx (iteFE b2iT (bindE gx (iteFE b2iT (chkE rfl (by omega) (bindE ea (iteFE (by decide) (iteFE (by decide) (iteTE rfl (bindE eo (iteFE (by omega) (iteFE (by omega) (iteFE (by omega) (iteTE (by omega) (bindE K.1 (b2E e1 rfl)))))))))))))))
      · refine bindE wm (iteFE b2iT (bindE gm (iteFE b2iT (chkE rfl (by omega) ?_))))
        rw [ek]
        exact iteFE (by decide) (iteTE rfl (b2E (f1) rfl))
    by_cases g2 : g = 2
    · subst g2
      obtain ⟨v1, X1, M1, e1, f1, i1⟩ := A17_17_fears K 7 (by omega) kz v
      refine ⟨v1, X1, M1, ?_, ?_, R_KI hR (by omega) i1⟩
      · exact bindE wx (iteFE b2iT (bindE gx (iteFE b2iT (chkE rfl (by omega) (bindE ea (iteFE (by decide) (iteFE (by decide) (iteFE (by decide) (bindE eo (iteFE (by omega) (iteFE (by omega) (iteFE (by omega) (iteTE (by omega) (bindE K.1 (b2E e1 rfl)))))))))))))))
      · refine bindE wm (iteFE b2iT (bindE gm (iteFE b2iT (chkE rfl (by omega) ?_))))
        rw [ek]
        exact iteFE (by decide) (iteFE (by decide) (iteTE rfl (b2E (f1) rfl)))
    obtain rfl : g = 3 := by omega
    obtain ⟨v1, X1, M1, e1, f1, i1⟩ := A17_14_tells K 7 (by omega) kz v
    refine ⟨v1, X1, M1, ?_, ?_, R_KI hR (by omega) i1⟩
    · exact bindE wx (iteFE b2iT (bindE gx (iteFE b2iT (chkE rfl (by omega) (bindE ea (iteFE (by decide) (iteTE rfl (bindE eo (iteFE (by omega) (iteFE (by omega) (iteFE (by omega) (iteTE (by omega) (bindE K.1 (b2E e1 rfl))))))))))))))
    · refine bindE wm (iteFE b2iT (bindE gm (iteFE b2iT (chkE rfl (by omega) ?_))))
      rw [ek]
      exact iteFE (by decide) (iteFE (by decide) (iteFE (by decide) (b2E ((up_tells_3 _ _ _ _).trans ((up_tells_2 _ _ _ _).trans (f1))) rfl)))
  by_cases k4 : k = 4
  · subst k4
    have K : KB (xI X 44 0) (sI M 39 0) a b 18 o := ⟨getO_eq q2 (by omega), q5, by rw [show (sI M 39 0).2.1 38 b = M.2.1 38 b from rfl, ma_eq, hk]; rfl, b50⟩
    by_cases g0 : g = 0
    · subst g0
      obtain ⟨v1, X1, M1, e1, f1, i1⟩ := A18_15_turnsIn K 7 (by omega) kz v
      refine ⟨v1, X1, M1, ?_, ?_, R_KI hR (by omega) i1⟩
      · exact bindE wx (iteFE b2iT (bindE gx (iteFE b2iT (chkE rfl (by omega) (bindE ea (iteTE rfl (bindE eo (iteFE (by omega) (iteFE (by omega) (iteFE (by omega) (iteFE (by omega) (iteTE (by omega) (bindE K.1 (b2E e1 rfl))))))))))))))
      · refine bindE wm (iteFE b2iT (bindE gm (iteFE b2iT (chkE rfl (by omega) ?_))))
        rw [ek]
        exact iteTE rfl (b2E ((up_turnsIn_4 _ _ _ _).trans (f1)) rfl)
    by_cases g1 : g = 1
    · subst g1
      obtain ⟨v1, X1, M1, e1, f1, i1⟩ := A18_14_sees K 7 (by omega) kz v
      refine ⟨v1, X1, M1, ?_, ?_, R_KI hR (by omega) i1⟩
      · exact bindE wx (iteFE b2iT (bindE gx (iteFE b2iT (chkE rfl (by omega) (bindE ea (iteFE (by decide) (iteFE (by decide) (iteTE rfl (bindE eo (iteFE (by omega) (iteFE (by omega) (iteFE (by omega) (iteFE (by omega) (iteTE (by omega) (bindE K.1 (b2E e1 rfl))))))))))))))))
      · refine bindE wm (iteFE b2iT (bindE gm (iteFE b2iT (chkE rfl (by omega) ?_))))
        rw [ek]
        exact iteFE (by decide) (iteTE rfl (b2E ((up_sees_4 _ _ _ _).trans ((up_sees_1 _ _ _ _).trans (f1))) rfl))
    by_cases g2 : g = 2
    · subst g2
      obtain ⟨v1, X1, M1, e1, f1, i1⟩ := A18_18_fears K 7 (by omega) kz v
      refine ⟨v1, X1, M1, ?_, ?_, R_KI hR (by omega) i1⟩
      · exact bindE wx (iteFE b2iT (bindE gx (iteFE b2iT (chkE rfl (by omega) (bindE ea (iteFE (by decide) (iteFE (by decide) (iteFE (by decide) (bindE eo (iteFE (by omega) (iteFE (by omega) (iteFE (by omega) (iteFE (by omega) (iteTE (by omega) (bindE K.1 (b2E e1 rfl))))))))))))))))
      · refine bindE wm (iteFE b2iT (bindE gm (iteFE b2iT (chkE rfl (by omega) ?_))))
        rw [ek]
        exact iteFE (by decide) (iteFE (by decide) (iteTE rfl (b2E (f1) rfl)))
    obtain rfl : g = 3 := by omega
    obtain ⟨v1, X1, M1, e1, f1, i1⟩ := A18_14_tells K 7 (by omega) kz v
    refine ⟨v1, X1, M1, ?_, ?_, R_KI hR (by omega) i1⟩
    · exact bindE wx (iteFE b2iT (bindE gx (iteFE b2iT (chkE rfl (by omega) (bindE ea (iteFE (by decide) (iteTE rfl (bindE eo (iteFE (by omega) (iteFE (by omega) (iteFE (by omega) (iteFE (by omega) (iteTE (by omega) (bindE K.1 (b2E e1 rfl)))))))))))))))
    · refine bindE wm (iteFE b2iT (bindE gm (iteFE b2iT (chkE rfl (by omega) ?_))))
      rw [ek]
      exact iteFE (by decide) (iteFE (by decide) (iteFE (by decide) (b2E ((up_tells_4 _ _ _ _).trans ((up_tells_1 _ _ _ _).trans (f1))) rfl)))
  by_cases k5 : k = 5
  · subst k5
    have K : KB (xI X 44 0) (sI M 39 0) a b 19 o := ⟨getO_eq q2 (by omega), q5, by rw [show (sI M 39 0).2.1 38 b = M.2.1 38 b from rfl, ma_eq, hk]; rfl, b50⟩
    by_cases g0 : g = 0
    · subst g0
      obtain ⟨v1, X1, M1, e1, f1, i1⟩ := A19_14_turnsIn K 6 (by omega) kz v
      refine ⟨v1, X1, M1, ?_, ?_, R_KI hR (by omega) i1⟩
      · exact bindE wx (iteFE b2iT (bindE gx (iteFE b2iT (chkE rfl (by omega) (bindE ea (iteTE rfl (bindE eo (iteFE (by omega) (iteFE (by omega) (iteFE (by omega) (iteFE (by omega) (iteFE (by omega) (iteTE (by omega) (bindE K.1 (b2E e1 rfl)))))))))))))))
      · refine bindE wm (iteFE b2iT (bindE gm (iteFE b2iT (chkE rfl (by omega) ?_))))
        rw [ek]
        exact iteTE rfl (b2E ((up_turnsIn_5 _ _ _ _).trans ((up_turnsIn_3 _ _ _ _).trans ((up_turnsIn_2 _ _ _ _).trans (f1)))) rfl)
    by_cases g1 : g = 1
    · subst g1
      obtain ⟨v1, X1, M1, e1, f1, i1⟩ := A19_17_sees K 6 (by omega) kz v
      refine ⟨v1, X1, M1, ?_, ?_, R_KI hR (by omega) i1⟩
      · exact bindE wx (iteFE b2iT (bindE gx (iteFE b2iT (chkE rfl (by omega) (bindE ea (iteFE (by decide) (iteFE (by decide) (iteTE rfl (bindE eo (iteFE (by omega) (iteFE (by omega) (iteFE (by omega) (iteFE (by omega) (iteFE (by omega) (iteTE (by omega) (bindE K.1 (b2E e1 rfl)))))))))))))))))
      · refine bindE wm (iteFE b2iT (bindE gm (iteFE b2iT (chkE rfl (by omega) ?_))))
        rw [ek]
        exact iteFE (by decide) (iteTE rfl (b2E ((up_sees_5 _ _ _ _).trans (f1)) rfl))
    by_cases g2 : g = 2
    · subst g2
      obtain ⟨v1, X1, M1, e1, f1, i1⟩ := A19_17_fears K 6 (by omega) kz v
      refine ⟨v1, X1, M1, ?_, ?_, R_KI hR (by omega) i1⟩
      · exact bindE wx (iteFE b2iT (bindE gx (iteFE b2iT (chkE rfl (by omega) (bindE ea (iteFE (by decide) (iteFE (by decide) (iteFE (by decide) (bindE eo (iteFE (by omega) (iteFE (by omega) (iteFE (by omega) (iteFE (by omega) (iteFE (by omega) (iteTE (by omega) (bindE K.1 (b2E e1 rfl)))))))))))))))))
      · refine bindE wm (iteFE b2iT (bindE gm (iteFE b2iT (chkE rfl (by omega) ?_))))
        rw [ek]
        exact iteFE (by decide) (iteFE (by decide) (iteTE rfl (b2E ((up_fears_5 _ _ _ _).trans (f1)) rfl)))
    obtain rfl : g = 3 := by omega
    obtain ⟨v1, X1, M1, e1, f1, i1⟩ := A19_19_tells K 6 (by omega) kz v
    refine ⟨v1, X1, M1, ?_, ?_, R_KI hR (by omega) i1⟩
    · exact bindE wx (iteFE b2iT (bindE gx (iteFE b2iT (chkE rfl (by omega) (bindE ea (iteFE (by decide) (iteTE rfl (bindE eo (iteFE (by omega) (iteFE (by omega) (iteFE (by omega) (iteFE (by omega) (iteFE (by omega) (iteTE (by omega) (bindE K.1 (b2E e1 rfl))))))))))))))))
    · refine bindE wm (iteFE b2iT (bindE gm (iteFE b2iT (chkE rfl (by omega) ?_))))
      rw [ek]
      exact iteFE (by decide) (iteFE (by decide) (iteFE (by decide) (b2E (f1) rfl)))
  by_cases k6 : k = 6
  · subst k6
    have K : KB (xI X 44 0) (sI M 39 0) a b 20 o := ⟨getO_eq q2 (by omega), q5, by rw [show (sI M 39 0).2.1 38 b = M.2.1 38 b from rfl, ma_eq, hk]; rfl, b50⟩
    by_cases g0 : g = 0
    · subst g0
      obtain ⟨v1, X1, M1, e1, f1, i1⟩ := A20_20_turnsIn K 8 (by omega) kz v
      refine ⟨v1, X1, M1, ?_, ?_, R_KI hR (by omega) i1⟩
      · exact bindE wx (iteFE b2iT (bindE gx (iteFE b2iT (chkE rfl (by omega) (bindE ea (iteTE rfl (bindE eo (iteFE (by omega) (iteFE (by omega) (iteFE (by omega) (iteFE (by omega) (iteFE (by omega) (iteFE (by omega) (iteTE (by omega) (bindE K.1 (b2E e1 rfl))))))))))))))))
      · refine bindE wm (iteFE b2iT (bindE gm (iteFE b2iT (chkE rfl (by omega) ?_))))
        rw [ek]
        exact iteTE rfl (b2E (f1) rfl)
    by_cases g1 : g = 1
    · subst g1
      obtain ⟨v1, X1, M1, e1, f1, i1⟩ := A20_14_sees K 8 (by omega) kz v
      refine ⟨v1, X1, M1, ?_, ?_, R_KI hR (by omega) i1⟩
      · exact bindE wx (iteFE b2iT (bindE gx (iteFE b2iT (chkE rfl (by omega) (bindE ea (iteFE (by decide) (iteFE (by decide) (iteTE rfl (bindE eo (iteFE (by omega) (iteFE (by omega) (iteFE (by omega) (iteFE (by omega) (iteFE (by omega) (iteFE (by omega) (iteTE (by omega) (bindE K.1 (b2E e1 rfl))))))))))))))))))
      · refine bindE wm (iteFE b2iT (bindE gm (iteFE b2iT (chkE rfl (by omega) ?_))))
        rw [ek]
        exact iteFE (by decide) (iteTE rfl (b2E ((up_sees_6 _ _ _ _).trans (f1)) rfl))
    by_cases g2 : g = 2
    · subst g2
      obtain ⟨v1, X1, M1, e1, f1, i1⟩ := A20_14_fears K 8 (by omega) kz v
      refine ⟨v1, X1, M1, ?_, ?_, R_KI hR (by omega) i1⟩
      · exact bindE wx (iteFE b2iT (bindE gx (iteFE b2iT (chkE rfl (by omega) (bindE ea (iteFE (by decide) (iteFE (by decide) (iteFE (by decide) (bindE eo (iteFE (by omega) (iteFE (by omega) (iteFE (by omega) (iteFE (by omega) (iteFE (by omega) (iteFE (by omega) (iteTE (by omega) (bindE K.1 (b2E e1 rfl))))))))))))))))))
      · refine bindE wm (iteFE b2iT (bindE gm (iteFE b2iT (chkE rfl (by omega) ?_))))
        rw [ek]
        exact iteFE (by decide) (iteFE (by decide) (iteTE rfl (b2E ((up_fears_6 _ _ _ _).trans (f1)) rfl)))
    obtain rfl : g = 3 := by omega
    obtain ⟨v1, X1, M1, e1, f1, i1⟩ := A20_14_tells K 8 (by omega) kz v
    refine ⟨v1, X1, M1, ?_, ?_, R_KI hR (by omega) i1⟩
    · exact bindE wx (iteFE b2iT (bindE gx (iteFE b2iT (chkE rfl (by omega) (bindE ea (iteFE (by decide) (iteTE rfl (bindE eo (iteFE (by omega) (iteFE (by omega) (iteFE (by omega) (iteFE (by omega) (iteFE (by omega) (iteFE (by omega) (iteTE (by omega) (bindE K.1 (b2E e1 rfl)))))))))))))))))
    · refine bindE wm (iteFE b2iT (bindE gm (iteFE b2iT (chkE rfl (by omega) ?_))))
      rw [ek]
      exact iteFE (by decide) (iteFE (by decide) (iteFE (by decide) (b2E ((up_tells_6 _ _ _ _).trans (f1)) rfl)))
  obtain rfl : k = 7 := by omega
  have K : KB (xI X 44 0) (sI M 39 0) a b 21 o := ⟨getO_eq q2 (by omega), q5, by rw [show (sI M 39 0).2.1 38 b = M.2.1 38 b from rfl, ma_eq, hk]; rfl, b50⟩
  by_cases g0 : g = 0
  · subst g0
    obtain ⟨v1, X1, M1, e1, f1, i1⟩ := A21_15_turnsIn K 6 (by omega) kz v
    refine ⟨v1, X1, M1, ?_, ?_, R_KI hR (by omega) i1⟩
    · exact bindE wx (iteFE b2iT (bindE gx (iteFE b2iT (chkE rfl (by omega) (bindE ea (iteTE rfl (bindE eo (iteFE (by omega) (iteFE (by omega) (iteFE (by omega) (iteFE (by omega) (iteFE (by omega) (iteFE (by omega) (iteFE (by omega) (iteTE (by omega) (bindE K.1 (b2E e1 rfl)))))))))))))))))
    · refine bindE wm (iteFE b2iT (bindE gm (iteFE b2iT (chkE rfl (by omega) ?_))))
      rw [ek]
      exact iteTE rfl (b2E ((up_turnsIn_7 _ _ _ _).trans ((up_turnsIn_4 _ _ _ _).trans (f1))) rfl)
  by_cases g1 : g = 1
  · subst g1
    obtain ⟨v1, X1, M1, e1, f1, i1⟩ := A21_21_sees K 6 (by omega) kz v
    refine ⟨v1, X1, M1, ?_, ?_, R_KI hR (by omega) i1⟩
    · exact bindE wx (iteFE b2iT (bindE gx (iteFE b2iT (chkE rfl (by omega) (bindE ea (iteFE (by decide) (iteFE (by decide) (iteTE rfl (bindE eo (iteFE (by omega) (iteFE (by omega) (iteFE (by omega) (iteFE (by omega) (iteFE (by omega) (iteFE (by omega) (iteFE (by omega) (iteTE (by omega) (bindE K.1 (b2E e1 rfl)))))))))))))))))))
    · refine bindE wm (iteFE b2iT (bindE gm (iteFE b2iT (chkE rfl (by omega) ?_))))
      rw [ek]
      exact iteFE (by decide) (iteTE rfl (b2E (f1) rfl))
  by_cases g2 : g = 2
  · subst g2
    obtain ⟨v1, X1, M1, e1, f1, i1⟩ := A21_18_fears K 6 (by omega) kz v
    refine ⟨v1, X1, M1, ?_, ?_, R_KI hR (by omega) i1⟩
    · exact bindE wx (iteFE b2iT (bindE gx (iteFE b2iT (chkE rfl (by omega) (bindE ea (iteFE (by decide) (iteFE (by decide) (iteFE (by decide) (bindE eo (iteFE (by omega) (iteFE (by omega) (iteFE (by omega) (iteFE (by omega) (iteFE (by omega) (iteFE (by omega) (iteFE (by omega) (iteTE (by omega) (bindE K.1 (b2E e1 rfl)))))))))))))))))))
    · refine bindE wm (iteFE b2iT (bindE gm (iteFE b2iT (chkE rfl (by omega) ?_))))
      rw [ek]
      exact iteFE (by decide) (iteFE (by decide) (iteTE rfl (b2E ((up_fears_7 _ _ _ _).trans (f1)) rfl)))
  obtain rfl : g = 3 := by omega
  obtain ⟨v1, X1, M1, e1, f1, i1⟩ := A21_21_tells K 6 (by omega) kz v
  refine ⟨v1, X1, M1, ?_, ?_, R_KI hR (by omega) i1⟩
  · exact bindE wx (iteFE b2iT (bindE gx (iteFE b2iT (chkE rfl (by omega) (bindE ea (iteFE (by decide) (iteTE rfl (bindE eo (iteFE (by omega) (iteFE (by omega) (iteFE (by omega) (iteFE (by omega) (iteFE (by omega) (iteFE (by omega) (iteFE (by omega) (iteTE (by omega) (bindE K.1 (b2E e1 rfl))))))))))))))))))
  · refine bindE wm (iteFE b2iT (bindE gm (iteFE b2iT (chkE rfl (by omega) ?_))))
    rw [ek]
    exact iteFE (by decide) (iteFE (by decide) (iteFE (by decide) (b2E (f1) rfl)))
