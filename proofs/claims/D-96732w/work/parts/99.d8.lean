/-! PLAIN LAW: the next order, in the reference. Own text. -/
set_option maxRecDepth 100000
/-- only the order has changed -/
def K52 (S S' : MS) : Prop := S'.1 = S.1 ∧ S'.2.2 = S.2.2 ∧ ∀ r, r ≠ 52 → S'.2.1 r = S.2.1 r
theorem K52.rf (S : MS) : K52 S S := ⟨rfl, rfl, fun _ _ => rfl⟩
theorem K52.tr {S S' S'' : MS} (h : K52 S S') (g : K52 S' S'') : K52 S S'' := ⟨g.1.trans h.1, g.2.1.trans h.2.1, fun r hr => (g.2.2 r hr).trans (h.2.2 r hr)⟩
theorem K52.set {S S' : MS} (h : K52 S S') (j : Nat) (v : Int32) : K52 S (sA S' 52 j v) := ⟨h.1, h.2.1, fun r hr => by
  rw [← h.2.2 r hr]; funext i; rw [sA21, if_neg hr]⟩
theorem K52.sm {S S' : MS} (h : K52 S S') : sm S S' := ⟨h.2.1, fun k _ => by rw [h.1], fun k hk => by
  by_cases c : k = 52
  · rw [c] at hk; cases hk
  · exact h.2.2 k c⟩
theorem exch_iz {S : MS} {a b : Nat} (ha : a < 9) (hb : b < 9) : ∃ S', m_exchange S (iz a) (iz b) = some S' ∧ K52 S S' ∧ ∀ j, ma S' 52 j = if j = b then ma S 52 a else if j = a then ma S 52 b else ma S 52 j := by
  have ra := ma_R S 52 a
  have rb := ma_R S 52 b
  refine ⟨sA (sA S 52 a (iz (ma S 52 b))) 52 b (iz (ma S 52 a)), ?_, ((K52.rf S).set _ _).set _ _, fun j => ?_⟩
  · unfold m_exchange
    refine chkE rfl (by omega) ?_
    rw [nmE]
    refine chkE rfl (by omega) (chkE rfl (by omega) ?_)
    rw [nmE]
    refine chkE rfl (by omega) ?_
    rw [nmE, iz_clampN (by omega), iz_clampN (by omega), ← ma_eq, ← ma_eq]
  · rw [ma_sA _ _ _ ra, if_pos rfl, ma_sA _ _ _ rb, if_pos rfl]
/-- turning the rest -/
theorem turn_l (N : Nat) {i k : Nat} (hn : i + 1 + k ≤ 9) (H : Nat → Int) : ∀ (m s : Nat) (S : MS), s ≤ k → k - s < m → (∀ j, j < k → (j < s ∨ k - 1 - s < j) → ma S 52 (i + 1 + j) = H j) → (∀ j, j < k → s ≤ j → j ≤ k - 1 - s → ma S 52 (i + 1 + j) = H (k - 1 - j)) → ∃ S', m_nextOrder_b78 N m S (iz ((i + 1 + s : Nat) : Int)) (iz ((i + k : Nat) - s : Int)) = some (true, S') ∧ K52 S S' ∧ (∀ j, j < k → ma S' 52 (i + 1 + j) = H j) ∧ ∀ j, j ≤ i → ma S' 52 j = ma S 52 j := by
  intro m
  induction m with
  | zero => intro s S h1 h2; omega
  | succ m ih =>
    intro s S h1 h2 ho hi
    rw [m_nextOrder_b78]
    have le : (iz ((i + k : Nat) - s : Int) ≤ iz ((i + 1 + s : Nat) : Int)) ↔ (i + k : Int) - s ≤ i + 1 + s := by rw [iz_le (by omega)]; omega
    by_cases c : (i + k : Int) - s ≤ i + 1 + s
    · refine ⟨S, iteTE (le.mpr c) rfl, K52.rf S, fun j hj => ?_, fun j _ => rfl⟩
      by_cases d : j < s ∨ k - 1 - s < j
      · exact ho j hj d
      · have := hi j hj (by omega) (by omega)
        rw [this]
        congr 1
        omega
    have sk : s + 1 + s < k := by omega
    obtain ⟨S1, g1, g2, g3⟩ := exch_iz (S := S) (a := i + 1 + s) (b := i + k - s) (by omega) (by omega)
    have e1 : iz ((i + k : Nat) - s : Int) = iz ((i + k - s : Nat) : Int) := by congr 1; omega
    have n1 : iz ((i + 1 + s : Nat) : Int) + 1 = iz ((i + 1 + (s + 1) : Nat) : Int) := by rw [show (1 : Int32) = iz 1 from rfl, iz_add]; rfl
    have n2 : iz ((i + k : Nat) - s : Int) + (-1) = iz ((i + k : Nat) - (s + 1 : Nat) : Int) := by rw [show (-1 : Int32) = iz (-1) from rfl, iz_add]; congr 1; omega
    obtain ⟨S', k1, k2, k3, k4⟩ := ih (s + 1) S1 (by omega) (by omega) (fun j hj hd => by
      rw [g3]
      by_cases z1 : i + 1 + j = i + k - s
      · rw [if_pos z1]
        have := hi s (by omega) (Nat.le_refl _) (by omega)
        rw [this]; congr 1; omega
      · rw [if_neg z1]
        by_cases z2 : i + 1 + j = i + 1 + s
        · rw [if_pos z2]
          have := hi (k - 1 - s) (by omega) (by omega) (by omega)
          rw [show i + 1 + (k - 1 - s) = i + k - s by omega] at this
          rw [this]; congr 1; omega
        · rw [if_neg z2]
          exact ho j hj (by omega)) (fun j hj h3 h4 => by
      rw [g3, if_neg (by omega), if_neg (by omega)]
      exact hi j hj (by omega) (by omega))
    refine ⟨S', iteFE (fun z => c (le.mp z)) (bindE (by rw [e1]; exact g1) ?_), g2.tr k2, k3, fun j hj => ?_⟩
    · rw [nmE, nmE, n1, n2]; exact k1
    · rw [k4 j hj, g3, if_neg (by omega), if_neg (by omega)]
/-- the last that is greater -/
theorem seek2_l (N : Nat) {i k c : Nat} (hn : i + 1 + k ≤ 9) (hc : c < k) {x : Int} {W : Nat → Int} {S : MS} (h1 : ma S 52 i = x) (h2 : ∀ m, m < k → ma S 52 (i + 1 + m) = W (k - 1 - m)) (h3 : x < W c) (h4 : ∀ m, m < c → W m < x) (l1 : Int32) : ∀ (m a : Nat), a ≤ c → c - a < m → ∃ n', m_nextOrder_b41 N l1 (iz i) m S (iz ((i + k - a : Nat) : Int)) = m_nextOrder_b41 N l1 (iz i) (n' + 1) S (iz ((i + k - c : Nat) : Int)) := by
  intro m
  induction m with
  | zero => intro a _ h; omega
  | succ m ih =>
    intro a ha hm
    by_cases d : a = c
    · subst d; exact ⟨m, rfl⟩
    obtain ⟨n', g⟩ := ih (a + 1) (by omega) (by omega)
    refine ⟨n', ?_⟩
    rw [← g, m_nextOrder_b41]
    have e1 := h2 (k - 1 - a) (by omega)
    rw [show i + 1 + (k - 1 - a) = i + k - a by omega, show k - 1 - (k - 1 - a) = a by omega] at e1
    have lt := h4 a (by omega)
    refine chkE rfl (by omega) (chkE rfl (by omega) (iteFE ?_ ?_))
    · have r1 := ma_R S 52 i
      have r2 := ma_R S 52 (i + k - a)
      rw [iz_clampN (by omega), iz_clampN (by omega), ma_eq S 52, ma_eq S 52, iz_le (by omega), h1, e1]
      omega
    · rw [nmE, show (-1 : Int32) = iz (-1) from rfl, iz_add]
      congr 2
      omega
/-- where it falls first -/
theorem fall_l (N : Nat) {n : Nat} (hn : n ≤ 9) {S : MS} (i : Int) (hi : -1 ≤ i) (h1 : ∀ j : Nat, i < j → j + 1 < n → ma S 52 (j + 1) < ma S 52 j) (l1 : Int32) : ∀ (m a : Nat), (i ≤ a ∧ a + 2 ≤ n) → (a : Int) - i < m → ∃ n', m_nextOrder_b4 N l1 m S (iz a) = m_nextOrder_b4 N l1 (n' + 1) S (iz i) := by
  intro m
  induction m with
  | zero => intro a _ h; omega
  | succ m ih =>
    intro a ha hm
    by_cases d : (a : Int) = i
    · exact ⟨m, by rw [d]⟩
    have lt := h1 a (by omega) (by omega)
    have st : m_nextOrder_b4 N l1 (m + 1) S (iz a) = m_nextOrder_b4 N l1 m S (iz ((a : Int) - 1)) := by
      rw [m_nextOrder_b4]
      have na : iz a + 1 = iz ((a + 1 : Nat) : Int) := by rw [show (1 : Int32) = iz 1 from rfl, iz_add]; rfl
      refine iteFE (by rw [show (0 : Int32) = iz 0 from rfl, iz_lt (by omega)]; omega) (chkE rfl (by omega) ?_)
      rw [na]
      refine chkE rfl (by omega) (iteFE ?_ ?_)
      · have r1 := ma_R S 52 a
        have r2 := ma_R S 52 (a + 1)
        rw [iz_clampN (by omega), iz_clampN (by omega), ma_eq S 52, ma_eq S 52, iz_le (by omega)]
        omega
      · rw [nmE, show (-1 : Int32) = iz (-1) from rfl, iz_add]
        rfl
    rw [st]
    by_cases a0 : a = 0
    · have : i = -1 := by omega
      subst a0
      rw [this]
      cases m with
      | zero => omega
      | succ m => exact ⟨m, rfl⟩
    · obtain ⟨n', g⟩ := ih (a - 1) (by omega) (by omega)
      refine ⟨n', ?_⟩
      rw [← g, show (a : Int) - 1 = ((a - 1 : Nat) : Int) by omega]
/-- an order as it lies -/
def Ar (S : MS) (o : List Nat) : Prop := ∀ (j x : Nat), o[j]? = some x → ma S 52 j = x
theorem next_none {N : Nat} (hN : 20 ≤ N) {S : MS} {o l : List Nat} (hl : up l) (e : o = l.reverse) (hn : o.length ≤ 9) (ha : Ar S o) : m_nextOrder N S (iz o.length) = some (false, S) := by
  unfold m_nextOrder
  rw [nmE, show (2 : Int32) = iz 2 from rfl, iz_sub]
  have fin : ∀ n', m_nextOrder_b4 N (iz o.length) (n' + 1) S (iz (-1)) = some (false, S) := fun n' => by
    rw [m_nextOrder_b4]
    refine iteTE (by decide) ?_
    unfold m_nextOrder_b31
    exact iteFE (by decide) rfl
  by_cases c : o.length ≤ 1
  · obtain ⟨N', rfl⟩ : ∃ N', N = N' + 1 := ⟨N - 1, by omega⟩
    rw [m_nextOrder_b4]
    refine iteTE (by rw [show (0 : Int32) = iz 0 from rfl, iz_lt (by omega)]; omega) ?_
    unfold m_nextOrder_b31
    exact iteFE (by rw [show (0 : Int32) = iz 0 from rfl, iz_le (by omega)]; omega) rfl
  · obtain ⟨n', g⟩ := fall_l N (n := o.length) hn (S := S) (-1) (by omega) (fun j _ hj => by
      have e1 := List.getElem?_eq_getElem (l := o) (i := j) (by omega)
      have e2 := List.getElem?_eq_getElem (l := o) (i := j + 1) hj
      have a1 := ha j _ e1
      have a2 := ha (j + 1) _ e2
      rw [a1, a2]
      have := rev_ix hl j o[j] o[j + 1] (by rw [← e]; exact e1) (by rw [← e]; exact e2)
      omega) (iz o.length) N (o.length - 2) (by omega) (by omega)
    rw [show (o.length : Int) - 2 = ((o.length - 2 : Nat) : Int) by omega, g]
    exact fin n'
theorem next_some {N : Nat} (hN : 20 ≤ N) {S : MS} {o o' : List Nat} (h : Nx o o') (hn : o.length ≤ 9) (ha : Ar S o) : ∃ S', m_nextOrder N S (iz o.length) = some (true, S') ∧ K52 S S' ∧ Ar S' o' ∧ o'.length = o.length := by
  obtain ⟨i, k, c, x, W, e1, e2, e3, e4, e5, e6, e7, e8, e9, e10, e11⟩ := h.ix
  have ax := ha i x e4
  have aw : ∀ m, m < k → ma S 52 (i + 1 + m) = (W (k - 1 - m) : Int) := fun m hm => ha _ _ (e5 m hm)
  unfold m_nextOrder
  rw [nmE, show (2 : Int32) = iz 2 from rfl, iz_sub, e1, show ((i + 1 + k : Nat) : Int) - 2 = ((i + 1 + k - 2 : Nat) : Int) by omega]
  obtain ⟨n', g⟩ := fall_l N (n := i + 1 + k) (by omega) (S := S) (i : Int) (by omega) (fun j j1 j2 => by
    have a1 := aw (j - (i + 1)) (by omega)
    have a2 := aw (j + 1 - (i + 1)) (by omega)
    rw [show i + 1 + (j - (i + 1)) = j by omega] at a1
    rw [show i + 1 + (j + 1 - (i + 1)) = j + 1 by omega] at a2
    have := e6 (k - 1 - (j + 1 - (i + 1))) (k - 1 - (j - (i + 1))) (by omega) (by omega)
    omega) (iz ((i + 1 + k : Nat) : Int)) N (i + 1 + k - 2) (by omega) (by omega)
  rw [g, m_nextOrder_b4]
  have ni : iz i + 1 = iz ((i + 1 : Nat) : Int) := by rw [show (1 : Int32) = iz 1 from rfl, iz_add]; rfl
  have a0 := aw 0 (by omega)
  have w0 : x < W (k - 1) := by
    by_cases z : c = k - 1
    · rw [← z]; exact e7
    · have := e6 c (k - 1) (by omega) (by omega); omega
  -- the exchange
  obtain ⟨S1, x1, x2, x3⟩ := exch_iz (S := S) (a := i) (b := i + k - c) (by omega) (by omega)
  have ac := aw (k - 1 - c) (by omega)
  rw [show i + 1 + (k - 1 - c) = i + k - c by omega, show k - 1 - (k - 1 - c) = c by omega] at ac
  obtain ⟨S', t1, t2, t3, t4⟩ := turn_l N (i := i) (k := k) (by omega) (fun m => if m = c then (x : Int) else (W m : Int)) N 0 S1 (by omega) (by omega) (fun j hj hd => by omega) (fun j hj _ _ => by
    rw [x3]
    by_cases z : i + 1 + j = i + k - c
    · rw [if_pos z, if_pos (by omega)]; exact ax
    · rw [if_neg z, if_neg (by omega), if_neg (by omega)]
      exact aw j hj)
  obtain ⟨n2, sk⟩ := seek2_l N (i := i) (k := k) (c := c) (by omega) e3 (x := x) (W := fun m => (W m : Int)) (S := S) ax aw (by omega) (fun m hm => by have := e8 m hm; omega) (iz ((i + 1 + k : Nat) : Int)) N 0 (by omega) (by omega)
  refine ⟨S', iteFE (by rw [show (0 : Int32) = iz 0 from rfl, iz_lt (by omega)]; omega) (chkE rfl (by omega) ?_), x2.tr t2, fun j y hj => ?_, by omega⟩
  · rw [ni]
    refine chkE rfl (by omega) (iteTE ?_ ?_)
    · have r1 := ma_R S 52 i
      have r2 := ma_R S 52 (i + 1)
      rw [iz_clampN (by omega), iz_clampN (by omega), ma_eq S 52, ma_eq S 52, iz_le (by omega), ax]
      rw [show i + 1 + 0 = i + 1 from rfl, show k - 1 - 0 = k - 1 from rfl] at a0
      omega
    · unfold m_nextOrder_b31
      refine iteTE (by rw [show (0 : Int32) = iz 0 from rfl, iz_le (by omega)]; omega) ?_
      rw [nmE, show (1 : Int32) = iz 1 from rfl, iz_sub, show ((i + 1 + k : Nat) : Int) - 1 = ((i + k - 0 : Nat) : Int) by omega, sk, m_nextOrder_b41]
      refine chkE rfl (by omega) (chkE rfl (by omega) (iteTE ?_ (bindE x1 ?_)))
      · have r1 := ma_R S 52 i
        have r2 := ma_R S 52 (i + k - c)
        rw [iz_clampN (by omega), iz_clampN (by omega), ma_eq S 52, ma_eq S 52, iz_le (by omega), ax, ac]
        omega
      · rw [nmE, nmE, show (1 : Int32) = iz 1 from rfl, iz_sub, iz_add]
        rw [show ((i + k : Nat) : Int) - ((0 : Nat) : Int) = ((i + 1 + k : Nat) : Int) - 1 by omega] at t1
        exact t1
  · have lj : j < i + 1 + k := by
      have := (List.getElem?_eq_some_iff.mp hj).1
      omega
    by_cases z : j < i
    · rw [e9 j z] at hj
      rw [t4 j (by omega), x3, if_neg (by omega), if_neg (by omega)]
      exact ha j y hj
    · by_cases z2 : j = i
      · subst z2
        rw [e10] at hj
        cases hj
        rw [t4 j (Nat.le_refl _), x3, if_neg (by omega), if_pos rfl, ac]
      · have := e11 (j - (i + 1)) (by omega)
        rw [show i + 1 + (j - (i + 1)) = j by omega, hj] at this
        have t := t3 (j - (i + 1)) (by omega)
        rw [show i + 1 + (j - (i + 1)) = j by omega] at t
        rw [t, Option.some.inj this]
        split <;> rfl
